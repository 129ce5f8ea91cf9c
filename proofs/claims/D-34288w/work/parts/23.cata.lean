/-! the catalogue's methods, walked: part a (written by tools/mkcat.py) -/
set_option maxRecDepth 100000
set_option maxHeartbeats 4000000 in
theorem xt_fillKeys (l : Launch) (K : GK) (A : Nat → Prop) (G0 : GM) (t lo : Nat) (ad : Nat → Nat → Nat) (κ : KS) (k : Nat) (r : RS) (hk : κ.1 k = some r) (y : Lb) (o : Nat) (O : Nat → Int32) (hy : ∀ R : RS, cput K.2.1 t lo ad (kSet κ k R) G0 y = some (o, .inl (K.2.1 0, 3, .inl O))) : Met l yX5_fillKeys (ws_ yX5_fillKeys cX5_fillKeys 3 none) ({ frames := 0, cells := 0, slots := 0, locals := 0 }) (va_Pc ([.ref (ad (k + 1) 0), .ref (o)]) (gW K A (cput K.2.1 t (lo) ad (κ) G0))) (va_Qv (fun u9 : KS => u9 = kSet κ k (fill O r)) (fun u9 t9 => gB K A (cput K.2.1 t (lo) ad (u9) G0) t9) A) 0 0 (A) := by
  refine g_ofW (cc := cX5_fillKeys) (by decide) (own := RX5) rfl (Nat.le_of_ble_eq_true rfl) ?_
  intro p e s m below meth c hC hr hlocks hnm hE hG ls hl
  have hl : lv_has ls 3 [(0, .ref (ad (k + 1) 0)), (1, .ref (o))] := hl
  have hG : gG K A s.heap (cput K.2.1 t (lo) ad (kSet (κ) (k) (r)) G0) s.heap [] := hG.eq (by rw [kSet_id hk])
  refine lv_iconst (v := 0) hC.1 hC.2.1 dX5_fillKeys_0 (by decide) ?_
  refine lv_istore_n (lv' := [(2, .int ((0))), (0, .ref (ad (k + 1) 0)), (1, .ref (o))]) hC.1 hC.2.1 dX5_fillKeys_1 rfl hl (by decide) rfl (fun ls hl => ?_)
  have lp2 : ∀ (nn i2 : Nat), i2 + nn = 3 → ∀ (H : Heap) (locs : List Loc), gG K A s.heap (cput K.2.1 t (lo) ad (kSet (κ) (k) (fKr O (i2) (r))) G0) H locs → ∀ ls : Array Slot, lv_has ls 3 [(2, .int (nI (i2))), (0, .ref (ad (k + 1) 0)), (1, .ref (o))] → W p l e ({ frames := 0, cells := 0, slots := 0, locals := 0 }) s m ([.ref (ad (k + 1) 0), .ref (o)] : List Value).toArray below meth c H locs 0 0 (MQ below (va_Qv (fun u9 : KS => u9 = kSet κ k (fill O r)) (fun u9 t9 => gB K A (cput K.2.1 t (lo) ad (u9) G0) t9) A) ([.ref (ad (k + 1) 0), .ref (o)] : List Value).toArray s 0 0 (A)) (F0 m 2 ls []) := by
    intro nn
    induction nn with
    | zero =>
      intro i2 hi2 H locs hG ls hl
      obtain rfl : 3 = i2 := by omega
      refine lv_iload_n hC.1 hC.2.1 dX5_fillKeys_2 rfl (lv_at hl 0 rfl) ?_
      refine lv_iconst (v := 3) hC.1 hC.2.1 dX5_fillKeys_3 (by decide) ?_
      refine n_ge (a := 3) (b := 3) hC (by omega) (by omega) (tgt := 41) dX5_fillKeys_4 (by decide) (fun c_4 => ?_) (fun c_4 => absurd c_4 (by omega))
      exact g_vret hC hG hr (kSet (κ) (k) (fKr O (3) (r))) rfl (by rfl) hlocks dX5_fillKeys_41
    | succ nn ih2 =>
      intro i2 hi2 H locs hG ls hl
      have hlt2 : i2 < 3 := by omega
      refine lv_iload_n hC.1 hC.2.1 dX5_fillKeys_2 rfl (lv_at hl 0 rfl) ?_
      refine lv_iconst (v := 3) hC.1 hC.2.1 dX5_fillKeys_3 (by decide) ?_
      refine n_ge (a := i2) (b := 3) hC (by omega) (by omega) (tgt := 41) dX5_fillKeys_4 (by decide) (fun c_4 => absurd c_4 (by omega)) (fun c_4 => ?_)
      refine lv_aload_n hC.1 hC.2.1 dX5_fillKeys_7 rfl (lv_at hl 1 rfl) ?_
      refine g_get hC hE hG in_X5 (cput_ro kSet_at) (ci := 4) rfl 0 (by decide) q268 (fun _ z => z) rfl dX5_fillKeys_8 ?_
      refine lv_iload_n hC.1 hC.2.1 dX5_fillKeys_11 rfl (lv_at hl 0 rfl) ?_
      refine lv_aload_n hC.1 hC.2.1 dX5_fillKeys_12 rfl (lv_at hl 1 rfl) ?_
      refine g_get hC hE hG in_X5 (cput_ro kSet_at) (ci := 4) rfl 0 (by decide) q268 (fun _ z => z) rfl dX5_fillKeys_13 ?_
      refine lv_iload_n hC.1 hC.2.1 dX5_fillKeys_16 rfl (lv_at hl 0 rfl) ?_
      refine g_ild hC hE hG (n := 3) (cput_r1 kSet_at) (by decide) (j := i2) (v := (fKr O (i2) (r)).1 1 i2) (by omega) (rfl) dX5_fillKeys_17 ?_
      refine lv_iconst (v := -1) hC.1 hC.2.1 dX5_fillKeys_18 (by decide) ?_
      refine lv_icmp_ne (tgt := 28) hC.1 hC.2.1 dX5_fillKeys_19 (by decide) (fun c_19 => ?_) (fun c_19 => ?_)
      · skip
        refine lv_aload_n hC.1 hC.2.1 dX5_fillKeys_28 rfl (lv_at hl 1 rfl) ?_
        refine g_get hC hE hG in_X5 (cput_ro kSet_at) (ci := 4) rfl 0 (by decide) q268 (fun _ z => z) rfl dX5_fillKeys_29 ?_
        refine lv_iload_n hC.1 hC.2.1 dX5_fillKeys_32 rfl (lv_at hl 0 rfl) ?_
        refine g_ild hC hE hG (n := 3) (cput_r1 kSet_at) (by decide) (j := i2) (v := (fKr O (i2) (r)).1 1 i2) (by omega) (rfl) dX5_fillKeys_33 ?_
        refine g_ist hC hE hG (n := 3) (cput_r1 kSet_at) (by decide) (j := i2) (by omega) dX5_fillKeys_34 (fun H locs hG => ?_)
        have hG : gG K A s.heap (cput K.2.1 t (lo) ad (kSet (κ) (k) (rA (fKr O (i2) (r)) 1 (upd ((fKr O (i2) (r)).1 1) (i2) ((fKr O (i2) (r)).1 1 i2)))) G0) H locs := hG.eq ((cput_rA (j := 1) kSet_at (by decide)).trans (by rw [kSet_set]))
        refine lv_iinc (v := nI (i2 + 1)) (lv' := [(2, .int (nI (i2 + 1))), (0, .ref (ad (k + 1) 0)), (1, .ref (o))]) hC.1 hC.2.1 dX5_fillKeys_35 hl (k := 0) rfl (n_inc _) (by decide) rfl (fun ls hl => ?_)
        refine lv_goto (tgt := 2) hC.1 hC.2.1 dX5_fillKeys_38 (by decide) ?_
        have hσ : kSet (κ) (k) (rA (fKr O (i2) (r)) 1 (upd ((fKr O (i2) (r)).1 1) (i2) ((fKr O (i2) (r)).1 1 i2))) = kSet (κ) (k) (fKr O (i2 + 1) (r)) := by
          simp only [fKr, fKs, if_neg c_19, if_true, if_false]
        exact ih2 (i2 + 1) (by omega) _ _ (hG.eq (by rw [hσ])) ls (lv_sub hl [0, 1, 2] rfl)
      · skip
        refine lv_aload_n hC.1 hC.2.1 dX5_fillKeys_22 rfl (lv_at hl 2 rfl) ?_
        refine lv_iload_n hC.1 hC.2.1 dX5_fillKeys_23 rfl (lv_at hl 0 rfl) ?_
        refine g_ild hC hE hG (n := 3) (hy (fKr O (i2) (r))) (by decide) (j := i2) (v := O i2) (by omega) (rfl) dX5_fillKeys_24 ?_
        refine lv_goto (tgt := 34) hC.1 hC.2.1 dX5_fillKeys_25 (by decide) ?_
        refine g_ist hC hE hG (n := 3) (cput_r1 kSet_at) (by decide) (j := i2) (by omega) dX5_fillKeys_34 (fun H locs hG => ?_)
        have hG : gG K A s.heap (cput K.2.1 t (lo) ad (kSet (κ) (k) (rA (fKr O (i2) (r)) 1 (upd ((fKr O (i2) (r)).1 1) (i2) (O i2)))) G0) H locs := hG.eq ((cput_rA (j := 1) kSet_at (by decide)).trans (by rw [kSet_set]))
        refine lv_iinc (v := nI (i2 + 1)) (lv' := [(2, .int (nI (i2 + 1))), (0, .ref (ad (k + 1) 0)), (1, .ref (o))]) hC.1 hC.2.1 dX5_fillKeys_35 hl (k := 0) rfl (n_inc _) (by decide) rfl (fun ls hl => ?_)
        refine lv_goto (tgt := 2) hC.1 hC.2.1 dX5_fillKeys_38 (by decide) ?_
        have hσ : kSet (κ) (k) (rA (fKr O (i2) (r)) 1 (upd ((fKr O (i2) (r)).1 1) (i2) (O i2))) = kSet (κ) (k) (fKr O (i2 + 1) (r)) := by
          simp only [fKr, fKs, if_pos c_19, if_true, if_false]
        exact ih2 (i2 + 1) (by omega) _ _ (hG.eq (by rw [hσ])) ls (lv_sub hl [0, 1, 2] rfl)
  exact lp2 3 0 (by omega) _ _ hG ls (lv_sub hl [0, 1, 2] rfl)
set_option maxHeartbeats 4000000 in
theorem xt_put (l : Launch) (K : GK) (A : Nat → Prop) (G0 : GM) (t lo : Nat) (ad : Nat → Nat → Nat) (κ : KS) (k : Nat) (r : RS) (hk : κ.1 k = some r) (n : Nat) (hn : n < 4) (v u : Int32) : Met l yX5_put (ws_ yX5_put cX5_put 4 none) ({ frames := 0, cells := 0, slots := 0, locals := 0 }) (va_Pc ([.ref (ad (k + 1) 0), .int (nI (n)), .int (v), .int (u)]) (gW K A (cput K.2.1 t (lo) ad (κ) G0))) (va_Qv (fun u9 : KS => u9 = kSet κ k (rPut r n v u)) (fun u9 t9 => gB K A (cput K.2.1 t (lo) ad (u9) G0) t9) A) 0 0 (A) := by
  refine g_ofW (cc := cX5_put) (by decide) (own := RX5) rfl (Nat.le_of_ble_eq_true rfl) ?_
  intro p e s m below meth c hC hr hlocks hnm hE hG ls hl
  have hl : lv_has ls 4 [(0, .ref (ad (k + 1) 0)), (1, .int (nI (n))), (2, .int (v)), (3, .int (u))] := hl
  have hG : gG K A s.heap (cput K.2.1 t (lo) ad (kSet (κ) (k) (r)) G0) s.heap [] := hG.eq (by rw [kSet_id hk])
  refine lv_aload_n hC.1 hC.2.1 dX5_put_0 rfl (lv_at hl 0 rfl) ?_
  refine g_get hC hE hG in_X5 (cput_ro kSet_at) (ci := 4) rfl 1 (by decide) q272 (fun _ z => z) rfl dX5_put_1 ?_
  refine lv_iload_n hC.1 hC.2.1 dX5_put_4 rfl (lv_at hl 1 rfl) ?_
  refine lv_iload_n hC.1 hC.2.1 dX5_put_5 rfl (lv_at hl 2 rfl) ?_
  refine g_ist hC hE hG (n := 4) (cput_r2 kSet_at) (by decide) (j := n) (by omega) dX5_put_6 (fun H locs hG => ?_)
  have hG : gG K A s.heap (cput K.2.1 t (lo) ad (kSet (κ) (k) (rA (r) 2 (upd ((r).1 2) (n) (v)))) G0) H locs := hG.eq ((cput_rA (j := 2) kSet_at (by decide)).trans (by rw [kSet_set]))
  refine lv_aload_n hC.1 hC.2.1 dX5_put_7 rfl (lv_at hl 0 rfl) ?_
  refine g_get hC hE hG in_X5 (cput_ro kSet_at) (ci := 4) rfl 2 (by decide) q276 (fun _ z => z) rfl dX5_put_8 ?_
  refine lv_iload_n hC.1 hC.2.1 dX5_put_11 rfl (lv_at hl 1 rfl) ?_
  refine lv_iload_n hC.1 hC.2.1 dX5_put_12 rfl (lv_at hl 3 rfl) ?_
  refine g_ist hC hE hG (n := 4) (cput_r3 kSet_at) (by decide) (j := n) (by omega) dX5_put_13 (fun H locs hG => ?_)
  have hG : gG K A s.heap (cput K.2.1 t (lo) ad (kSet (κ) (k) (rA (rA (r) 2 (upd ((r).1 2) (n) (v))) 3 (upd ((rA (r) 2 (upd ((r).1 2) (n) (v))).1 3) (n) (u)))) G0) H locs := hG.eq ((cput_rA (j := 3) kSet_at (by decide)).trans (by rw [kSet_set]))
  exact g_vret hC hG hr (kSet (κ) (k) (rA (rA (r) 2 (upd ((r).1 2) (n) (v))) 3 (upd ((rA (r) 2 (upd ((r).1 2) (n) (v))).1 3) (n) (u)))) rfl (by rfl) hlocks dX5_put_14
set_option maxHeartbeats 4000000 in
theorem xt_has (l : Launch) (K : GK) (A : Nat → Prop) (G0 : GM) (t lo : Nat) (ad : Nat → Nat → Nat) (κ : KS) (v : Int32) : Met l yX2_has (ws_ yX2_has cX2_has 2 (some .boolean)) ({ frames := 0, cells := 0, slots := 0, locals := 0 }) (va_Pc ([.ref (ad 0 0), .int (v)]) (gW K A (cput K.2.1 t (lo) ad (κ) G0))) (vp_Si (fun r9 => r9 = bI (kHas κ v))) 0 0 (fun _ => False) := by
  refine g_ofW (cc := cX2_has) (by decide) (own := RX2) rfl (Nat.le_of_ble_eq_true rfl) ?_
  intro p e s m below meth c hC hr hlocks hnm hE hG ls hl
  have hl : lv_has ls 2 [(0, .ref (ad 0 0)), (1, .int (v))] := hl
  refine lv_iload_n hC.1 hC.2.1 dX2_has_0 rfl (lv_at hl 1 rfl) ?_
  refine lv_if_lt (tgt := 23) hC.1 hC.2.1 dX2_has_1 (by decide) (fun c_1 => ?_) (fun c_1 => ?_)
  · skip
    refine lv_iconst (v := 0) hC.1 hC.2.1 dX2_has_23 (by decide) ?_
    exact g_roret hC hr (rfl) (by exact (bI_f (fun q => q.1 c_1)).symm) hlocks dX2_has_24
  · skip
    refine lv_iload_n hC.1 hC.2.1 dX2_has_4 rfl (lv_at hl 1 rfl) ?_
    refine lv_bipush (v := 80) hC.1 hC.2.1 dX2_has_5 (by decide) ?_
    refine lv_icmp_ge (tgt := 23) hC.1 hC.2.1 dX2_has_7 (by decide) (fun c_7 => ?_) (fun c_7 => ?_)
    · skip
      refine lv_iconst (v := 0) hC.1 hC.2.1 dX2_has_23 (by decide) ?_
      exact g_roret hC hr (rfl) (by exact (bI_f (fun q => q.2.1 c_7)).symm) hlocks dX2_has_24
    · skip
      obtain ⟨j, hj, rfl⟩ : ∃ j : Nat, j < 80 ∧ v = nI j := by
        rcases pk_ix v (n := 80) (by decide) with q | q | ⟨j, hj, q⟩
        · exact absurd q c_1
        · exact absurd q c_7
        · exact ⟨j, hj, q⟩
      refine lv_aload_n hC.1 hC.2.1 dX2_has_10 rfl (lv_at hl 0 rfl) ?_
      refine g_get hC hE hG in_X2 (cput_o) (ci := 1) rfl 0 (by decide) q92 (fun _ z => z) rfl dX2_has_11 ?_
      refine lv_iload_n hC.1 hC.2.1 dX2_has_14 rfl (lv_at hl 1 rfl) ?_
      rcases hk_15 : (κ).1 (j) with _ | r_15
      · skip
        refine g_qld hC hE hG 4 (cput_r) rfl (by decide) (j := j) (by omega) (v := .null) (by rw [crow_e hk_15]; rfl) dX2_has_15 ?_
        refine lv_ifnullN hC.1 hC.2.1 dX2_has_16 (tgt := 23) (by decide) ?_
        refine lv_iconst (v := 0) hC.1 hC.2.1 dX2_has_23 (by decide) ?_
        exact g_roret hC hr (rfl) (by exact (bI_f (fun q => by have := (kHas_i hj).mp q; rw [hk_15] at this; cases this)).symm) hlocks dX2_has_24
      · skip
        refine g_qld hC hE hG 4 (cput_r) rfl (by decide) (j := j) (by omega) (v := .ref (ad (j + 1) 0)) (by rw [crow_s hk_15]; rfl) dX2_has_15 ?_
        refine lv_ifnull hC.1 hC.2.1 dX2_has_16 ?_
        refine lv_iconst (v := 1) hC.1 hC.2.1 dX2_has_19 (by decide) ?_
        refine lv_goto (tgt := 24) hC.1 hC.2.1 dX2_has_20 (by decide) ?_
        exact g_roret hC hr (rfl) (by exact (bI_t ((kHas_i hj).mpr (by rw [hk_15]; rfl))).symm) hlocks dX2_has_24
set_option maxHeartbeats 4000000 in
theorem xt_find (l : Launch) (K : GK) (A : Nat → Prop) (G0 : GM) (t lo : Nat) (ad : Nat → Nat → Nat) (κ : KS) (q : Nat) (hq : q < 3) (v : Int32) : Met l yX2_find (ws_ yX2_find cX2_find 5 (some .int)) ({ frames := 0, cells := 0, slots := 0, locals := 0 }) (va_Pc ([.ref (ad 0 0), .int (nI (q)), .int (v)]) (gW K A (cput K.2.1 t (lo) ad (κ) G0))) (vp_Si (fun r9 => r9 = kFd κ q v)) 0 0 (fun _ => False) := by
  refine g_ofW (cc := cX2_find) (by decide) (own := RX2) rfl (Nat.le_of_ble_eq_true rfl) ?_
  intro p e s m below meth c hC hr hlocks hnm hE hG ls hl
  have hl : lv_has ls 5 [(0, .ref (ad 0 0)), (1, .int (nI (q))), (2, .int (v))] := hl
  refine lv_iconst (v := -1) hC.1 hC.2.1 dX2_find_0 (by decide) ?_
  refine lv_istore_n (lv' := [(3, .int ((-1))), (0, .ref (ad 0 0)), (1, .int (nI (q))), (2, .int (v))]) hC.1 hC.2.1 dX2_find_1 rfl hl (by decide) rfl (fun ls hl => ?_)
  refine lv_iconst (v := 0) hC.1 hC.2.1 dX2_find_2 (by decide) ?_
  refine lv_istore (lv' := [(4, .int ((0))), (3, .int ((-1))), (0, .ref (ad 0 0)), (1, .int (nI (q))), (2, .int (v))]) hC.1 hC.2.1 dX2_find_3 hl (by decide) rfl (fun ls hl => ?_)
  by_cases hz : v = -1
  · skip
    refine lv_iload hC.1 hC.2.1 dX2_find_5 (lv_at hl 0 rfl) ?_
    refine lv_bipush (v := 80) hC.1 hC.2.1 dX2_find_7 (by decide) ?_
    refine lv_icmp_ge (tgt := 62) hC.1 hC.2.1 dX2_find_9 (by decide) (fun c_9 => absurd c_9 (by decide)) (fun c_9 => ?_)
    refine lv_iload_n hC.1 hC.2.1 dX2_find_12 rfl (lv_at hl 4 rfl) ?_
    refine lv_iconst (v := -1) hC.1 hC.2.1 dX2_find_13 (by decide) ?_
    refine lv_icmp_eq (tgt := 62) hC.1 hC.2.1 dX2_find_14 (by decide) (fun c_14 => ?_) (fun c_14 => absurd hz c_14)
    refine lv_iload_n hC.1 hC.2.1 dX2_find_62 rfl (lv_at hl 1 rfl) ?_
    exact g_roret hC hr (rfl) (by simp only [kFd, if_pos hz, if_true, if_false]) hlocks dX2_find_63
  · skip
    have lp5 : ∀ (nn i5 : Nat), i5 + nn = 80 → ∀ ls : Array Slot, lv_has ls 5 [(4, .int (nI (i5))), (3, .int (kFn κ q v (i5))), (0, .ref (ad 0 0)), (1, .int (nI (q))), (2, .int (v))] → W p l e ({ frames := 0, cells := 0, slots := 0, locals := 0 }) s m ([.ref (ad 0 0), .int (nI (q)), .int (v)] : List Value).toArray below meth c s.heap [] 0 0 (MQ below (vp_Si (fun r9 => r9 = kFd κ q v)) ([.ref (ad 0 0), .int (nI (q)), .int (v)] : List Value).toArray s 0 0 (fun _ => False)) (F0 m 5 ls []) := by
      intro nn
      induction nn with
      | zero =>
        intro i5 hi5 ls hl
        obtain rfl : 80 = i5 := by omega
        refine lv_iload hC.1 hC.2.1 dX2_find_5 (lv_at hl 0 rfl) ?_
        refine lv_bipush (v := 80) hC.1 hC.2.1 dX2_find_7 (by decide) ?_
        refine n_ge (a := 80) (b := 80) hC (by omega) (by omega) (tgt := 62) dX2_find_9 (by decide) (fun c_9 => ?_) (fun c_9 => absurd c_9 (by omega))
        refine lv_iload_n hC.1 hC.2.1 dX2_find_62 rfl (lv_at hl 1 rfl) ?_
        exact g_roret hC hr (rfl) (by simp only [kFd, if_neg hz, if_true, if_false]) hlocks dX2_find_63
      | succ nn ih5 =>
        intro i5 hi5 ls hl
        have hlt5 : i5 < 80 := by omega
        refine lv_iload hC.1 hC.2.1 dX2_find_5 (lv_at hl 0 rfl) ?_
        refine lv_bipush (v := 80) hC.1 hC.2.1 dX2_find_7 (by decide) ?_
        refine n_ge (a := i5) (b := 80) hC (by omega) (by omega) (tgt := 62) dX2_find_9 (by decide) (fun c_9 => absurd c_9 (by omega)) (fun c_9 => ?_)
        refine lv_iload_n hC.1 hC.2.1 dX2_find_12 rfl (lv_at hl 4 rfl) ?_
        refine lv_iconst (v := -1) hC.1 hC.2.1 dX2_find_13 (by decide) ?_
        refine lv_icmp_eq (tgt := 62) hC.1 hC.2.1 dX2_find_14 (by decide) (fun c_14 => absurd c_14 hz) (fun c_14 => ?_)
        refine lv_aload_n hC.1 hC.2.1 dX2_find_17 rfl (lv_at hl 2 rfl) ?_
        refine g_get hC hE hG in_X2 (cput_o) (ci := 1) rfl 0 (by decide) q92 (fun _ z => z) rfl dX2_find_18 ?_
        refine lv_iload hC.1 hC.2.1 dX2_find_21 (lv_at hl 0 rfl) ?_
        rcases hk_23 : (κ).1 (i5) with _ | r_23
        · skip
          refine g_qld hC hE hG 4 (cput_r) rfl (by decide) (j := i5) (by omega) (v := .null) (by rw [crow_e hk_23]; rfl) dX2_find_23 ?_
          refine lv_ifnullN hC.1 hC.2.1 dX2_find_24 (tgt := 56) (by decide) ?_
          refine lv_iinc (v := nI (i5 + 1)) (lv' := [(4, .int (nI (i5 + 1))), (3, .int (kFn κ q v (i5))), (0, .ref (ad 0 0)), (1, .int (nI (q))), (2, .int (v))]) hC.1 hC.2.1 dX2_find_56 hl (k := 0) rfl (n_inc _) (by decide) rfl (fun ls hl => ?_)
          refine lv_goto (tgt := 5) hC.1 hC.2.1 dX2_find_59 (by decide) ?_
          have hl : lv_has ls 5 [(4, .int (nI (i5 + 1))), (3, .int (kFn κ q v (i5 + 1))), (0, .ref (ad 0 0)), (1, .int (nI (q))), (2, .int (v))] := by
            have e3 : kFn κ q v (i5 + 1) = kFn κ q v (i5) := by
              simp only [kFn, if_neg hz, hk_23, if_true, if_false]
            rw [e3]
            exact lv_sub hl [0, 1, 2, 3, 4] rfl
          exact ih5 (i5 + 1) (by omega) ls (lv_sub hl [0, 1, 2, 3, 4] rfl)
        · skip
          refine g_qld hC hE hG 4 (cput_r) rfl (by decide) (j := i5) (by omega) (v := .ref (ad (i5 + 1) 0)) (by rw [crow_s hk_23]; rfl) dX2_find_23 ?_
          refine lv_ifnull hC.1 hC.2.1 dX2_find_24 ?_
          refine lv_aload_n hC.1 hC.2.1 dX2_find_27 rfl (lv_at hl 2 rfl) ?_
          refine g_get hC hE hG in_X2 (cput_o) (ci := 1) rfl 0 (by decide) q92 (fun _ z => z) rfl dX2_find_28 ?_
          refine lv_iload hC.1 hC.2.1 dX2_find_31 (lv_at hl 0 rfl) ?_
          refine g_qld hC hE hG 4 (cput_r) rfl (by decide) (j := i5) (by omega) (v := .ref (ad (i5 + 1) 0)) (by rw [crow_s hk_23]; rfl) dX2_find_33 ?_
          refine g_getN hC hE hG in_X5 (cput_ro hk_23) (ci := 4) rfl 0 (by decide) 11 rfl (fun _ z => z) rfl dX2_find_34 ?_
          refine lv_iload_n hC.1 hC.2.1 dX2_find_37 rfl (lv_at hl 3 rfl) ?_
          refine g_ild hC hE hG (n := 3) (cput_r1 hk_23) (by decide) (j := q) (v := r_23.1 1 q) (by omega) (rfl) dX2_find_38 ?_
          refine lv_iload_n hC.1 hC.2.1 dX2_find_39 rfl (lv_at hl 4 rfl) ?_
          refine lv_icmp_ne (tgt := 56) hC.1 hC.2.1 dX2_find_40 (by decide) (fun c_40 => ?_) (fun c_40 => ?_)
          · skip
            refine lv_iinc (v := nI (i5 + 1)) (lv' := [(4, .int (nI (i5 + 1))), (3, .int (kFn κ q v (i5))), (0, .ref (ad 0 0)), (1, .int (nI (q))), (2, .int (v))]) hC.1 hC.2.1 dX2_find_56 hl (k := 0) rfl (n_inc _) (by decide) rfl (fun ls hl => ?_)
            refine lv_goto (tgt := 5) hC.1 hC.2.1 dX2_find_59 (by decide) ?_
            have hl : lv_has ls 5 [(4, .int (nI (i5 + 1))), (3, .int (kFn κ q v (i5 + 1))), (0, .ref (ad 0 0)), (1, .int (nI (q))), (2, .int (v))] := by
              have e3 : kFn κ q v (i5 + 1) = kFn κ q v (i5) := by
                simp only [kFn, if_neg hz, hk_23, if_neg c_40, if_true, if_false]
              rw [e3]
              exact lv_sub hl [0, 1, 2, 3, 4] rfl
            exact ih5 (i5 + 1) (by omega) ls (lv_sub hl [0, 1, 2, 3, 4] rfl)
          · skip
            refine lv_iload_n hC.1 hC.2.1 dX2_find_43 rfl (lv_at hl 1 rfl) ?_
            refine lv_iconst (v := -1) hC.1 hC.2.1 dX2_find_44 (by decide) ?_
            refine lv_icmp_ne (tgt := 53) hC.1 hC.2.1 dX2_find_45 (by decide) (fun c_45 => ?_) (fun c_45 => ?_)
            · skip
              refine lv_bipush (v := -2) hC.1 hC.2.1 dX2_find_53 (by decide) ?_
              refine lv_istore_n (lv' := [(3, .int ((-2))), (4, .int (nI (i5))), (0, .ref (ad 0 0)), (1, .int (nI (q))), (2, .int (v))]) hC.1 hC.2.1 dX2_find_55 rfl hl (by decide) rfl (fun ls hl => ?_)
              refine lv_iinc (v := nI (i5 + 1)) (lv' := [(4, .int (nI (i5 + 1))), (3, .int ((-2))), (0, .ref (ad 0 0)), (1, .int (nI (q))), (2, .int (v))]) hC.1 hC.2.1 dX2_find_56 hl (k := 1) rfl (n_inc _) (by decide) rfl (fun ls hl => ?_)
              refine lv_goto (tgt := 5) hC.1 hC.2.1 dX2_find_59 (by decide) ?_
              have hl : lv_has ls 5 [(4, .int (nI (i5 + 1))), (3, .int (kFn κ q v (i5 + 1))), (0, .ref (ad 0 0)), (1, .int (nI (q))), (2, .int (v))] := by
                have e3 : kFn κ q v (i5 + 1) = (-2) := by
                  simp only [kFn, if_neg hz, hk_23, if_pos c_40, if_neg c_45, if_true, if_false]
                rw [e3]
                exact lv_sub hl [0, 1, 2, 3, 4] rfl
              exact ih5 (i5 + 1) (by omega) ls (lv_sub hl [0, 1, 2, 3, 4] rfl)
            · skip
              refine lv_iload hC.1 hC.2.1 dX2_find_48 (lv_at hl 0 rfl) ?_
              refine lv_goto (tgt := 55) hC.1 hC.2.1 dX2_find_50 (by decide) ?_
              refine lv_istore_n (lv' := [(3, .int (nI (i5))), (4, .int (nI (i5))), (0, .ref (ad 0 0)), (1, .int (nI (q))), (2, .int (v))]) hC.1 hC.2.1 dX2_find_55 rfl hl (by decide) rfl (fun ls hl => ?_)
              refine lv_iinc (v := nI (i5 + 1)) (lv' := [(4, .int (nI (i5 + 1))), (3, .int (nI (i5))), (0, .ref (ad 0 0)), (1, .int (nI (q))), (2, .int (v))]) hC.1 hC.2.1 dX2_find_56 hl (k := 1) rfl (n_inc _) (by decide) rfl (fun ls hl => ?_)
              refine lv_goto (tgt := 5) hC.1 hC.2.1 dX2_find_59 (by decide) ?_
              have hl : lv_has ls 5 [(4, .int (nI (i5 + 1))), (3, .int (kFn κ q v (i5 + 1))), (0, .ref (ad 0 0)), (1, .int (nI (q))), (2, .int (v))] := by
                have e3 : kFn κ q v (i5 + 1) = nI (i5) := by
                  simp only [kFn, if_neg hz, hk_23, if_pos c_40, if_pos c_45, if_true, if_false]
                rw [e3]
                exact lv_sub hl [0, 1, 2, 3, 4] rfl
              exact ih5 (i5 + 1) (by omega) ls (lv_sub hl [0, 1, 2, 3, 4] rfl)
    exact lp5 80 0 (by omega) ls (lv_sub hl [0, 1, 2, 3, 4] rfl)
set_option maxHeartbeats 4000000 in
theorem xt_match (l : Launch) (K : GK) (A : Nat → Prop) (G0 : GM) (t : Nat) (ad : Nat → Nat → Nat) (κ : KS) (b : Nat → Nat) (x : MS) (cn : Nat) (ht : 3 ≤ t) (hlo : lAt K.2.1 b x cn G0) (y : Lb) (hyt : y.1 ≠ t) (o : Nat) (O : Nat → Int32) (hy : G0 y = some (o, .inl (K.2.1 0, 3, .inl O))) (hO : wO x) : Met l yX2_match (ws_ yX2_match cX2_match 4 (some .int)) ({ frames := 1, cells := 0, slots := 0, locals := 24 }) (va_Pc ([.ref (ad 0 0), .ref (o)]) (gW K A (cput K.2.1 t (b 11) ad (κ) G0))) (vp_Si (fun r9 => r9 = kMt κ x O 3)) 0 0 (fun _ => False) := by
  refine g_ofW (cc := cX2_match) (by decide) (own := RX2) rfl (Nat.le_of_ble_eq_true rfl) ?_
  intro p e s m below meth c hC hr hlocks hnm hE hG ls hl
  have hl : lv_has ls 4 [(0, .ref (ad 0 0)), (1, .ref (o))] := hl
  refine lv_iconst (v := -1) hC.1 hC.2.1 dX2_match_0 (by decide) ?_
  refine lv_istore_n (lv' := [(2, .int ((-1))), (0, .ref (ad 0 0)), (1, .ref (o))]) hC.1 hC.2.1 dX2_match_1 rfl hl (by decide) rfl (fun ls hl => ?_)
  refine lv_iconst (v := 0) hC.1 hC.2.1 dX2_match_2 (by decide) ?_
  refine lv_istore_n (lv' := [(3, .int ((0))), (2, .int ((-1))), (0, .ref (ad 0 0)), (1, .ref (o))]) hC.1 hC.2.1 dX2_match_3 rfl hl (by decide) rfl (fun ls hl => ?_)
  have lp4 : ∀ (nn i4 : Nat), i4 + nn = 3 → ∀ ls : Array Slot, lv_has ls 4 [(3, .int (nI (i4))), (2, .int (kMt κ x O (i4))), (0, .ref (ad 0 0)), (1, .ref (o))] → W p l e ({ frames := 1, cells := 0, slots := 0, locals := 24 }) s m ([.ref (ad 0 0), .ref (o)] : List Value).toArray below meth c s.heap [] 0 0 (MQ below (vp_Si (fun r9 => r9 = kMt κ x O 3)) ([.ref (ad 0 0), .ref (o)] : List Value).toArray s 0 0 (fun _ => False)) (F0 m 4 ls []) := by
    intro nn
    induction nn with
    | zero =>
      intro i4 hi4 ls hl
      obtain rfl : 3 = i4 := by omega
      refine lv_iload_n hC.1 hC.2.1 dX2_match_4 rfl (lv_at hl 0 rfl) ?_
      refine lv_iconst (v := 3) hC.1 hC.2.1 dX2_match_5 (by decide) ?_
      refine n_ge (a := 3) (b := 3) hC (by omega) (by omega) (tgt := 45) dX2_match_6 (by decide) (fun c_6 => ?_) (fun c_6 => absurd c_6 (by omega))
      refine lv_iload_n hC.1 hC.2.1 dX2_match_45 rfl (lv_at hl 1 rfl) ?_
      exact g_roret hC hr (rfl) (by rfl) hlocks dX2_match_46
    | succ nn ih4 =>
      intro i4 hi4 ls hl
      have hlt4 : i4 < 3 := by omega
      refine lv_iload_n hC.1 hC.2.1 dX2_match_4 rfl (lv_at hl 0 rfl) ?_
      refine lv_iconst (v := 3) hC.1 hC.2.1 dX2_match_5 (by decide) ?_
      refine n_ge (a := i4) (b := 3) hC (by omega) (by omega) (tgt := 45) dX2_match_6 (by decide) (fun c_6 => absurd c_6 (by omega)) (fun c_6 => ?_)
      refine lv_iload_n hC.1 hC.2.1 dX2_match_9 rfl (lv_at hl 1 rfl) ?_
      refine lv_iconst (v := -1) hC.1 hC.2.1 dX2_match_10 (by decide) ?_
      refine lv_icmp_ne (tgt := 45) hC.1 hC.2.1 dX2_match_11 (by decide) (fun c_11 => ?_) (fun c_11 => ?_)
      · skip
        refine lv_iload_n hC.1 hC.2.1 dX2_match_45 rfl (lv_at hl 1 rfl) ?_
        exact g_roret hC hr (rfl) (by exact (kMt_st c_11 (nn + 1)).symm.trans (by rw [hi4])) hlocks dX2_match_46
      · skip
        have ho2 := (vp_nat (hO i4) (by decide)).2
        refine lv_aload_n hC.1 hC.2.1 dX2_match_14 rfl (lv_at hl 2 rfl) ?_
        refine lv_aload_n hC.1 hC.2.1 dX2_match_15 rfl (lv_at hl 2 rfl) ?_
        refine g_get hC hE hG in_X2 (cput_o) (ci := 1) rfl 2 (by decide) q101 (fun _ z => z) rfl dX2_match_16 ?_
        refine g_getN hC hE hG in_X1 ((hlo.c ht).1) (ci := 0) rfl 2 (by decide) 10 rfl (fun _ z => z) rfl dX2_match_19 ?_
        refine lv_iload_n hC.1 hC.2.1 dX2_match_22 rfl (lv_at hl 0 rfl) ?_
        refine g_ild hC hE hG (n := 3) ((hlo.c ht).2.1 2 (by decide)) (by decide) (j := i4) (v := nI (tN (x.2 2 i4))) (by omega) ((vp_nat (hO i4) (by decide)).1) dX2_match_23 ?_
        refine lv_aload_n hC.1 hC.2.1 dX2_match_24 rfl (lv_at hl 3 rfl) ?_
        refine lv_aload_n hC.1 hC.2.1 dX2_match_25 rfl (lv_at hl 2 rfl) ?_
        refine g_get hC hE hG in_X2 (cput_o) (ci := 1) rfl 2 (by decide) q101 (fun _ z => z) rfl dX2_match_26 ?_
        refine g_getN hC hE hG in_X1 ((hlo.c ht).1) (ci := 0) rfl 2 (by decide) 10 rfl (fun _ z => z) rfl dX2_match_29 ?_
        refine lv_iload_n hC.1 hC.2.1 dX2_match_32 rfl (lv_at hl 0 rfl) ?_
        refine g_ild hC hE hG (n := 3) ((hlo.c ht).2.1 2 (by decide)) (by decide) (j := i4) (v := nI (tN (x.2 2 i4))) (by omega) ((vp_nat (hO i4) (by decide)).1) dX2_match_33 ?_
        refine g_ild hC hE hG (n := 3) ((cput_n hyt).trans hy) (by decide) (j := tN (x.2 2 i4)) (v := O (tN (x.2 2 i4))) (by omega) (rfl) dX2_match_34 ?_
        refine g_roV (As := [.int (nI (tN (x.2 2 i4))), .int (O (tN (x.2 2 i4)))]) (rest := []) hC hE hG (xt_find l K A G0 t (b 11) ad κ (tN (x.2 2 i4)) ho2 (O (tN (x.2 2 i4)))) (cwV 2 hC.2.2.2.2 (lw_V q258 q259 q260 q25 q261) rfl rfl rfl (by decide +kernel) ⟨Nat.le_of_ble_eq_true rfl, Nat.le_of_ble_eq_true rfl⟩) (cput_o) (ci := 1) rfl rfl hl.1 rfl (Nat.le_of_ble_eq_true rfl) dX2_match_35 ⟨Nat.le_of_ble_eq_true rfl, Nat.le_of_ble_eq_true rfl⟩ (fun r hr9 => ?_)
        subst hr9
        refine lv_istore_n (lv' := [(2, .int (kFd κ (tN (x.2 2 i4)) (O (tN (x.2 2 i4))))), (3, .int (nI (i4))), (0, .ref (ad 0 0)), (1, .ref (o))]) hC.1 hC.2.1 dX2_match_38 rfl hl (by decide) rfl (fun ls hl => ?_)
        refine lv_iinc (v := nI (i4 + 1)) (lv' := [(3, .int (nI (i4 + 1))), (2, .int (kFd κ (tN (x.2 2 i4)) (O (tN (x.2 2 i4))))), (0, .ref (ad 0 0)), (1, .ref (o))]) hC.1 hC.2.1 dX2_match_39 hl (k := 1) rfl (n_inc _) (by decide) rfl (fun ls hl => ?_)
        refine lv_goto (tgt := 4) hC.1 hC.2.1 dX2_match_42 (by decide) ?_
        have hl : lv_has ls 4 [(3, .int (nI (i4 + 1))), (2, .int (kMt κ x O (i4 + 1))), (0, .ref (ad 0 0)), (1, .ref (o))] := by
          have e2 : kMt κ x O (i4 + 1) = kFd κ (tN (x.2 2 i4)) (O (tN (x.2 2 i4))) := by
            simp only [kMt, if_pos c_11, if_true, if_false]
          rw [e2]
          exact lv_sub hl [0, 1, 2, 3] rfl
        exact ih4 (i4 + 1) (by omega) ls (lv_sub hl [0, 1, 2, 3] rfl)
  exact lp4 3 0 (by omega) ls (lv_sub hl [0, 1, 2, 3] rfl)
set_option maxHeartbeats 4000000 in
theorem xt_replaces (l : Launch) (K : GK) (A : Nat → Prop) (G0 : GM) (t : Nat) (ad : Nat → Nat → Nat) (κ : KS) (b : Nat → Nat) (x : MS) (cn : Nat) (ht : 3 ≤ t) (hlo : lAt K.2.1 b x cn G0) (k : Nat) (r : RS) (hk : κ.1 k = some r) (f : Nat) (hf : f < 4) (u : Int32) (hu : vp_in u 5) (hs : rOk r) : Met l yX2_replaces (ws_ yX2_replaces cX2_replaces 4 (some .boolean)) ({ frames := 0, cells := 0, slots := 0, locals := 0 }) (va_Pc ([.ref (ad 0 0), .ref (ad (k + 1) 0), .int (nI (f)), .int (u)]) (gW K A (cput K.2.1 t (b 11) ad (κ) G0))) (vp_Si (fun r9 => r9 = kRep x r f u)) 0 0 (fun _ => False) := by
  refine g_ofW (cc := cX2_replaces) (by decide) (own := RX2) rfl (Nat.le_of_ble_eq_true rfl) ?_
  intro p e s m below meth c hC hr hlocks hnm hE hG ls hl
  have hl : lv_has ls 4 [(0, .ref (ad 0 0)), (1, .ref (ad (k + 1) 0)), (2, .int (nI (f))), (3, .int (u))] := hl
  refine lv_aload_n hC.1 hC.2.1 dX2_replaces_0 rfl (lv_at hl 1 rfl) ?_
  refine g_getN hC hE hG in_X5 (cput_ro hk) (ci := 4) rfl 1 (by decide) 12 rfl (fun _ z => z) rfl dX2_replaces_1 ?_
  refine lv_iload_n hC.1 hC.2.1 dX2_replaces_4 rfl (lv_at hl 2 rfl) ?_
  refine g_ild hC hE hG (n := 4) (cput_r2 hk) (by decide) (j := f) (v := r.1 2 f) (by omega) (rfl) dX2_replaces_5 ?_
  refine lv_iconst (v := -1) hC.1 hC.2.1 dX2_replaces_6 (by decide) ?_
  refine lv_icmp_ne (tgt := 12) hC.1 hC.2.1 dX2_replaces_7 (by decide) (fun c_7 => ?_) (fun c_7 => ?_)
  · skip
    refine lv_aload_n hC.1 hC.2.1 dX2_replaces_12 rfl (lv_at hl 0 rfl) ?_
    refine g_get hC hE hG in_X2 (cput_o) (ci := 1) rfl 2 (by decide) q101 (fun _ z => z) rfl dX2_replaces_13 ?_
    refine g_getN hC hE hG in_X1 ((hlo.c ht).1) (ci := 0) rfl 1 (by decide) 9 rfl (fun _ z => z) rfl dX2_replaces_16 ?_
    refine lv_iload_n hC.1 hC.2.1 dX2_replaces_19 rfl (lv_at hl 2 rfl) ?_
    refine g_ild hC hE hG (n := 4) ((hlo.c ht).2.1 1 (by decide)) (by decide) (j := f) (v := x.2 1 f) (by omega) (rfl) dX2_replaces_20 ?_
    refine lv_iconst (v := 2) hC.1 hC.2.1 dX2_replaces_21 (by decide) ?_
    refine lv_icmp_eq (tgt := 64) hC.1 hC.2.1 dX2_replaces_22 (by decide) (fun c_22 => ?_) (fun c_22 => ?_)
    · skip
      refine lv_iconst (v := 1) hC.1 hC.2.1 dX2_replaces_64 (by decide) ?_
      refine lv_goto (tgt := 69) hC.1 hC.2.1 dX2_replaces_65 (by decide) ?_
      exact g_roret hC hr (rfl) (by simp only [kRep, if_neg c_7, if_pos c_22, if_true, if_false]) hlocks dX2_replaces_69
    · skip
      refine lv_aload_n hC.1 hC.2.1 dX2_replaces_25 rfl (lv_at hl 0 rfl) ?_
      refine g_get hC hE hG in_X2 (cput_o) (ci := 1) rfl 2 (by decide) q101 (fun _ z => z) rfl dX2_replaces_26 ?_
      refine g_getN hC hE hG in_X1 ((hlo.c ht).1) (ci := 0) rfl 1 (by decide) 9 rfl (fun _ z => z) rfl dX2_replaces_29 ?_
      refine lv_iload_n hC.1 hC.2.1 dX2_replaces_32 rfl (lv_at hl 2 rfl) ?_
      refine g_ild hC hE hG (n := 4) ((hlo.c ht).2.1 1 (by decide)) (by decide) (j := f) (v := x.2 1 f) (by omega) (rfl) dX2_replaces_33 ?_
      refine lv_iconst (v := 1) hC.1 hC.2.1 dX2_replaces_34 (by decide) ?_
      refine lv_icmp_ne (tgt := 68) hC.1 hC.2.1 dX2_replaces_35 (by decide) (fun c_35 => ?_) (fun c_35 => ?_)
      · skip
        refine lv_iconst (v := 0) hC.1 hC.2.1 dX2_replaces_68 (by decide) ?_
        exact g_roret hC hr (rfl) (by simp only [kRep, if_neg c_7, if_neg c_22, if_neg c_35, if_true, if_false]) hlocks dX2_replaces_69
      · skip
        refine lv_aload_n hC.1 hC.2.1 dX2_replaces_38 rfl (lv_at hl 0 rfl) ?_
        refine g_get hC hE hG in_X2 (cput_o) (ci := 1) rfl 2 (by decide) q101 (fun _ z => z) rfl dX2_replaces_39 ?_
        refine g_getN hC hE hG in_X1 ((hlo.c ht).1) (ci := 0) rfl 0 (by decide) 8 rfl (fun _ z => z) rfl dX2_replaces_42 ?_
        refine lv_iload_n hC.1 hC.2.1 dX2_replaces_45 rfl (lv_at hl 3 rfl) ?_
        refine g_iald hC hE hG (n := 5) ((hlo.c ht).2.1 0 (by decide)) (i := u) (hu) dX2_replaces_46 ?_
        refine lv_aload_n hC.1 hC.2.1 dX2_replaces_47 rfl (lv_at hl 0 rfl) ?_
        refine g_get hC hE hG in_X2 (cput_o) (ci := 1) rfl 2 (by decide) q101 (fun _ z => z) rfl dX2_replaces_48 ?_
        refine g_getN hC hE hG in_X1 ((hlo.c ht).1) (ci := 0) rfl 0 (by decide) 8 rfl (fun _ z => z) rfl dX2_replaces_51 ?_
        refine lv_aload_n hC.1 hC.2.1 dX2_replaces_54 rfl (lv_at hl 1 rfl) ?_
        refine g_getN hC hE hG in_X5 (cput_ro hk) (ci := 4) rfl 2 (by decide) 13 rfl (fun _ z => z) rfl dX2_replaces_55 ?_
        refine lv_iload_n hC.1 hC.2.1 dX2_replaces_58 rfl (lv_at hl 2 rfl) ?_
        refine g_ild hC hE hG (n := 4) (cput_r3 hk) (by decide) (j := f) (v := r.1 3 f) (by omega) (rfl) dX2_replaces_59 ?_
        refine g_iald hC hE hG (n := 5) ((hlo.c ht).2.1 0 (by decide)) (i := r.1 3 f) ((hs f).resolve_left c_7) dX2_replaces_60 ?_
        refine lv_icmp_lt (tgt := 68) hC.1 hC.2.1 dX2_replaces_61 (by decide) (fun c_61 => ?_) (fun c_61 => ?_)
        · skip
          refine lv_iconst (v := 0) hC.1 hC.2.1 dX2_replaces_68 (by decide) ?_
          exact g_roret hC hr (rfl) (by simp only [kRep, if_neg c_7, if_neg c_22, if_pos c_35, if_pos c_61, if_true, if_false]) hlocks dX2_replaces_69
        · skip
          refine lv_iconst (v := 1) hC.1 hC.2.1 dX2_replaces_64 (by decide) ?_
          refine lv_goto (tgt := 69) hC.1 hC.2.1 dX2_replaces_65 (by decide) ?_
          exact g_roret hC hr (rfl) (by simp only [kRep, if_neg c_7, if_neg c_22, if_pos c_35, if_neg c_61, if_true, if_false]) hlocks dX2_replaces_69
  · skip
    refine lv_iconst (v := 1) hC.1 hC.2.1 dX2_replaces_10 (by decide) ?_
    exact g_roret hC hr (rfl) (by simp only [kRep, if_pos c_7, if_true, if_false]) hlocks dX2_replaces_11
set_option maxHeartbeats 4000000 in
theorem xt_layOver (l : Launch) (K : GK) (A : Nat → Prop) (G0 : GM) (t : Nat) (ad : Nat → Nat → Nat) (κ : KS) (b : Nat → Nat) (x : MS) (cn : Nat) (ht : 3 ≤ t) (hlo : lAt K.2.1 b x cn G0) (k : Nat) (r : RS) (hk : κ.1 k = some r) (i : Nat) (ea : Nat → Nat) (n : Nat) (bt u : Int32) (O F : Nat → Int32) (hev : dAt K.2.1 i ea n bt u O F (b 11) G0) (hu : vp_in u 5) (hs : rOk r) : Met l yX2_layOver (ws_ yX2_layOver cX2_layOver 5 none) ({ frames := 1, cells := 0, slots := 0, locals := 23 }) (va_Pc ([.ref (ad 0 0), .ref (ad (k + 1) 0), .ref (ea 0)]) (gW K A (cput K.2.1 t (b 11) ad (κ) G0))) (va_Qv (fun u9 : KS => u9 = kSet κ k (kLay x O F u r)) (fun u9 t9 => gB K A (cput K.2.1 t (b 11) ad (u9) G0) t9) A) 0 0 (A) := by
  refine g_ofW (cc := cX2_layOver) (by decide) (own := RX2) rfl (Nat.le_of_ble_eq_true rfl) ?_
  intro p e s m below meth c hC hr hlocks hnm hE hG ls hl
  have hl : lv_has ls 5 [(0, .ref (ad 0 0)), (1, .ref (ad (k + 1) 0)), (2, .ref (ea 0))] := hl
  refine lv_aload_n hC.1 hC.2.1 dX2_layOver_0 rfl (lv_at hl 1 rfl) ?_
  refine lv_aload_n hC.1 hC.2.1 dX2_layOver_1 rfl (lv_at hl 2 rfl) ?_
  refine g_getN hC hE hG in_X4 (cput_e ht hev.1) (ci := 3) rfl 3 (by decide) 17 rfl (fun _ z => z) rfl dX2_layOver_2 ?_
  refine g_cVv (As := [.ref (ea 1)]) (rest := []) (S := KS) hC hE hG (xt_fillKeys l K A G0 t (b 11) ad κ k r hk (2, i, 1) (ea 1) O (fun R => cput_e ht hev.2.1)) (cwV 1 hC.2.2.2.2 (lw_V q303 q304 q305 q40 q306) rfl rfl rfl (by decide +kernel) ⟨Nat.le_of_ble_eq_true rfl, Nat.le_of_ble_eq_true rfl⟩) (cput_ro hk) (ci := 4) rfl rfl hl.1 rfl (Nat.le_of_ble_eq_true rfl) dX2_layOver_5 ⟨Nat.le_of_ble_eq_true rfl, Nat.le_of_ble_eq_true rfl⟩ (fun u H locs hu9 hG => ?_)
  subst hu9
  refine lv_iconst (v := 0) hC.1 hC.2.1 dX2_layOver_8 (by decide) ?_
  refine lv_istore_n (lv' := [(3, .int ((0))), (0, .ref (ad 0 0)), (1, .ref (ad (k + 1) 0)), (2, .ref (ea 0))]) hC.1 hC.2.1 dX2_layOver_9 rfl hl (by decide) rfl (fun ls hl => ?_)
  have hs4 : ∀ j, rOk (lFn x F u j (fill O r)) := fun j => (hs.fil O).lfn x F hu j
  have lp10 : ∀ (nn i10 : Nat), i10 + nn = 4 → ∀ (H : Heap) (locs : List Loc), gG K A s.heap (cput K.2.1 t (b 11) ad (kSet (κ) (k) (lFn x F u (i10) (fill O r))) G0) H locs → ∀ ls : Array Slot, lv_has ls 5 [(3, .int (nI (i10))), (0, .ref (ad 0 0)), (1, .ref (ad (k + 1) 0)), (2, .ref (ea 0))] → W p l e ({ frames := 1, cells := 0, slots := 0, locals := 23 }) s m ([.ref (ad 0 0), .ref (ad (k + 1) 0), .ref (ea 0)] : List Value).toArray below meth c H locs 0 0 (MQ below (va_Qv (fun u9 : KS => u9 = kSet κ k (kLay x O F u r)) (fun u9 t9 => gB K A (cput K.2.1 t (b 11) ad (u9) G0) t9) A) ([.ref (ad 0 0), .ref (ad (k + 1) 0), .ref (ea 0)] : List Value).toArray s 0 0 (A)) (F0 m 10 ls []) := by
    intro nn
    induction nn with
    | zero =>
      intro i10 hi10 H locs hG ls hl
      obtain rfl : 4 = i10 := by omega
      have hs4 : ∀ j, rOk (lFn x F u j (fill O r)) := fun j => (hs.fil O).lfn x F hu j
      refine lv_iload_n hC.1 hC.2.1 dX2_layOver_10 rfl (lv_at hl 0 rfl) ?_
      refine lv_iconst (v := 4) hC.1 hC.2.1 dX2_layOver_11 (by decide) ?_
      refine n_ge (a := 4) (b := 4) hC (by omega) (by omega) (tgt := 80) dX2_layOver_12 (by decide) (fun c_12 => ?_) (fun c_12 => absurd c_12 (by omega))
      exact g_vret hC hG hr (kSet (κ) (k) (lFn x F u (4) (fill O r))) rfl (by rfl) hlocks dX2_layOver_80
    | succ nn ih10 =>
      intro i10 hi10 H locs hG ls hl
      have hlt10 : i10 < 4 := by omega
      have hs4 : ∀ j, rOk (lFn x F u j (fill O r)) := fun j => (hs.fil O).lfn x F hu j
      refine lv_iload_n hC.1 hC.2.1 dX2_layOver_10 rfl (lv_at hl 0 rfl) ?_
      refine lv_iconst (v := 4) hC.1 hC.2.1 dX2_layOver_11 (by decide) ?_
      refine n_ge (a := i10) (b := 4) hC (by omega) (by omega) (tgt := 80) dX2_layOver_12 (by decide) (fun c_12 => absurd c_12 (by omega)) (fun c_12 => ?_)
      refine lv_aload_n hC.1 hC.2.1 dX2_layOver_15 rfl (lv_at hl 3 rfl) ?_
      refine g_getN hC hE hG in_X4 (cput_e ht hev.1) (ci := 3) rfl 4 (by decide) 18 rfl (fun _ z => z) rfl dX2_layOver_16 ?_
      refine lv_iload_n hC.1 hC.2.1 dX2_layOver_19 rfl (lv_at hl 0 rfl) ?_
      refine g_ild hC hE hG (n := 4) (cput_e ht hev.2.2) (by decide) (j := i10) (v := F i10) (by omega) (rfl) dX2_layOver_20 ?_
      refine lv_iconst (v := -1) hC.1 hC.2.1 dX2_layOver_21 (by decide) ?_
      refine lv_icmp_eq (tgt := 38) hC.1 hC.2.1 dX2_layOver_22 (by decide) (fun c_22 => ?_) (fun c_22 => ?_)
      · skip
        refine lv_iconst (v := 0) hC.1 hC.2.1 dX2_layOver_38 (by decide) ?_
        refine lv_istore (lv' := [(4, .int ((0))), (3, .int (nI (i10))), (0, .ref (ad 0 0)), (1, .ref (ad (k + 1) 0)), (2, .ref (ea 0))]) hC.1 hC.2.1 dX2_layOver_39 hl (by decide) rfl (fun ls hl => ?_)
        refine lv_iload hC.1 hC.2.1 dX2_layOver_41 (lv_at hl 0 rfl) ?_
        refine lv_if_eq (tgt := 74) hC.1 hC.2.1 dX2_layOver_43 (by decide) (fun c_43 => ?_) (fun c_43 => absurd c_43 (by decide))
        refine lv_iinc (v := nI (i10 + 1)) (lv' := [(3, .int (nI (i10 + 1))), (4, .int ((0))), (0, .ref (ad 0 0)), (1, .ref (ad (k + 1) 0)), (2, .ref (ea 0))]) hC.1 hC.2.1 dX2_layOver_74 hl (k := 1) rfl (n_inc _) (by decide) rfl (fun ls hl => ?_)
        refine lv_goto (tgt := 10) hC.1 hC.2.1 dX2_layOver_77 (by decide) ?_
        have hs4 : ∀ j, rOk (lFn x F u j (fill O r)) := fun j => (hs.fil O).lfn x F hu j
        have hσ : kSet (κ) (k) (lFn x F u (i10) (fill O r)) = kSet (κ) (k) (lFn x F u (i10 + 1) (fill O r)) := by
          simp only [lFn, lFs, if_pos c_22, if_true, if_false]
        exact ih10 (i10 + 1) (by omega) _ _ (hG.eq (by rw [hσ])) ls (lv_sub hl [0, 2, 3, 4] rfl)
      · skip
        refine lv_aload_n hC.1 hC.2.1 dX2_layOver_25 rfl (lv_at hl 2 rfl) ?_
        refine g_getN hC hE hG in_X5 (cput_ro kSet_at) (ci := 4) rfl 3 (by decide) 14 rfl (fun _ z => z) rfl dX2_layOver_26 ?_
        refine lv_iload_n hC.1 hC.2.1 dX2_layOver_29 rfl (lv_at hl 0 rfl) ?_
        refine g_zld hC hE hG (n := 4) (cput_r4 kSet_at) (by decide) (j := i10) (v := (lFn x F u (i10) (fill O r)).1 4 i10) (by omega) (rfl) dX2_layOver_30 ?_
        refine lv_if_ne (tgt := 38) hC.1 hC.2.1 dX2_layOver_31 (by decide) (fun c_31 => ?_) (fun c_31 => ?_)
        · skip
          refine lv_iconst (v := 0) hC.1 hC.2.1 dX2_layOver_38 (by decide) ?_
          refine lv_istore (lv' := [(4, .int ((0))), (3, .int (nI (i10))), (0, .ref (ad 0 0)), (1, .ref (ad (k + 1) 0)), (2, .ref (ea 0))]) hC.1 hC.2.1 dX2_layOver_39 hl (by decide) rfl (fun ls hl => ?_)
          refine lv_iload hC.1 hC.2.1 dX2_layOver_41 (lv_at hl 0 rfl) ?_
          refine lv_if_eq (tgt := 74) hC.1 hC.2.1 dX2_layOver_43 (by decide) (fun c_43 => ?_) (fun c_43 => absurd c_43 (by decide))
          refine lv_iinc (v := nI (i10 + 1)) (lv' := [(3, .int (nI (i10 + 1))), (4, .int ((0))), (0, .ref (ad 0 0)), (1, .ref (ad (k + 1) 0)), (2, .ref (ea 0))]) hC.1 hC.2.1 dX2_layOver_74 hl (k := 1) rfl (n_inc _) (by decide) rfl (fun ls hl => ?_)
          refine lv_goto (tgt := 10) hC.1 hC.2.1 dX2_layOver_77 (by decide) ?_
          have hs4 : ∀ j, rOk (lFn x F u j (fill O r)) := fun j => (hs.fil O).lfn x F hu j
          have hσ : kSet (κ) (k) (lFn x F u (i10) (fill O r)) = kSet (κ) (k) (lFn x F u (i10 + 1) (fill O r)) := by
            simp only [lFn, lFs, if_neg c_22, if_neg c_31, if_true, if_false]
          exact ih10 (i10 + 1) (by omega) _ _ (hG.eq (by rw [hσ])) ls (lv_sub hl [0, 2, 3, 4] rfl)
        · skip
          refine lv_iconst (v := 1) hC.1 hC.2.1 dX2_layOver_34 (by decide) ?_
          refine lv_goto (tgt := 39) hC.1 hC.2.1 dX2_layOver_35 (by decide) ?_
          refine lv_istore (lv' := [(4, .int ((1))), (3, .int (nI (i10))), (0, .ref (ad 0 0)), (1, .ref (ad (k + 1) 0)), (2, .ref (ea 0))]) hC.1 hC.2.1 dX2_layOver_39 hl (by decide) rfl (fun ls hl => ?_)
          refine lv_iload hC.1 hC.2.1 dX2_layOver_41 (lv_at hl 0 rfl) ?_
          refine lv_if_eq (tgt := 74) hC.1 hC.2.1 dX2_layOver_43 (by decide) (fun c_43 => absurd c_43 (by decide)) (fun c_43 => ?_)
          refine lv_aload_n hC.1 hC.2.1 dX2_layOver_46 rfl (lv_at hl 2 rfl) ?_
          refine lv_aload_n hC.1 hC.2.1 dX2_layOver_47 rfl (lv_at hl 3 rfl) ?_
          refine lv_iload_n hC.1 hC.2.1 dX2_layOver_48 rfl (lv_at hl 1 rfl) ?_
          refine lv_aload_n hC.1 hC.2.1 dX2_layOver_49 rfl (lv_at hl 4 rfl) ?_
          refine g_getN hC hE hG in_X4 (cput_e ht hev.1) (ci := 3) rfl 2 (by decide) 16 rfl (fun _ z => z) rfl dX2_layOver_50 ?_
          refine g_roV (As := [.ref (ad (k + 1) 0), .int (nI (i10)), .int (u)]) (rest := []) hC hE hG (xt_replaces l K A G0 t ad (kSet (κ) (k) (lFn x F u (i10) (fill O r))) b x cn ht hlo k (lFn x F u (i10) (fill O r)) kSet_at i10 (by omega) u hu (hs4 i10)) (cwV 3 hC.2.2.2.2 (lw_V q307 q308 q309 q25 q310) rfl rfl rfl (by decide +kernel) ⟨Nat.le_of_ble_eq_true rfl, Nat.le_of_ble_eq_true rfl⟩) (cput_o) (ci := 1) rfl rfl hl.1 rfl (Nat.le_of_ble_eq_true rfl) dX2_layOver_53 ⟨Nat.le_of_ble_eq_true rfl, Nat.le_of_ble_eq_true rfl⟩ (fun r hr9 => ?_)
          subst hr9
          refine lv_if_eq (tgt := 74) hC.1 hC.2.1 dX2_layOver_56 (by decide) (fun c_56 => ?_) (fun c_56 => ?_)
          · skip
            refine lv_iinc (v := nI (i10 + 1)) (lv' := [(3, .int (nI (i10 + 1))), (4, .int ((1))), (0, .ref (ad 0 0)), (1, .ref (ad (k + 1) 0)), (2, .ref (ea 0))]) hC.1 hC.2.1 dX2_layOver_74 hl (k := 1) rfl (n_inc _) (by decide) rfl (fun ls hl => ?_)
            refine lv_goto (tgt := 10) hC.1 hC.2.1 dX2_layOver_77 (by decide) ?_
            have hs4 : ∀ j, rOk (lFn x F u j (fill O r)) := fun j => (hs.fil O).lfn x F hu j
            have hσ : kSet (κ) (k) (lFn x F u (i10) (fill O r)) = kSet (κ) (k) (lFn x F u (i10 + 1) (fill O r)) := by
              simp only [lFn, lFs, if_neg c_22, if_pos c_31, if_pos c_56, if_true, if_false]
            exact ih10 (i10 + 1) (by omega) _ _ (hG.eq (by rw [hσ])) ls (lv_sub hl [0, 2, 3, 4] rfl)
          · skip
            refine lv_aload_n hC.1 hC.2.1 dX2_layOver_59 rfl (lv_at hl 3 rfl) ?_
            refine lv_iload_n hC.1 hC.2.1 dX2_layOver_60 rfl (lv_at hl 1 rfl) ?_
            refine lv_aload_n hC.1 hC.2.1 dX2_layOver_61 rfl (lv_at hl 4 rfl) ?_
            refine g_getN hC hE hG in_X4 (cput_e ht hev.1) (ci := 3) rfl 4 (by decide) 18 rfl (fun _ z => z) rfl dX2_layOver_62 ?_
            refine lv_iload_n hC.1 hC.2.1 dX2_layOver_65 rfl (lv_at hl 1 rfl) ?_
            refine g_ild hC hE hG (n := 4) (cput_e ht hev.2.2) (by decide) (j := i10) (v := F i10) (by omega) (rfl) dX2_layOver_66 ?_
            refine lv_aload_n hC.1 hC.2.1 dX2_layOver_67 rfl (lv_at hl 4 rfl) ?_
            refine g_getN hC hE hG in_X4 (cput_e ht hev.1) (ci := 3) rfl 2 (by decide) 16 rfl (fun _ z => z) rfl dX2_layOver_68 ?_
            refine g_cVv (As := [.int (nI (i10)), .int (F i10), .int (u)]) (rest := []) (S := KS) hC hE hG (xt_put l K A G0 t (b 11) ad (kSet (κ) (k) (lFn x F u (i10) (fill O r))) k (lFn x F u (i10) (fill O r)) kSet_at i10 (by omega) (F i10) (u)) (cwV 3 hC.2.2.2.2 (lw_V q311 q312 q313 q40 q314) rfl rfl rfl (by decide +kernel) ⟨Nat.le_of_ble_eq_true rfl, Nat.le_of_ble_eq_true rfl⟩) (cput_ro kSet_at) (ci := 4) rfl rfl hl.1 rfl (Nat.le_of_ble_eq_true rfl) dX2_layOver_71 ⟨Nat.le_of_ble_eq_true rfl, Nat.le_of_ble_eq_true rfl⟩ (fun u H locs hu9 hG => ?_)
            subst hu9
            have hG : gG K A s.heap (cput K.2.1 t (b 11) ad (kSet (κ) (k) (rPut (lFn x F u (i10) (fill O r)) i10 (F i10) (u))) G0) H locs := hG.eq (by rw [kSet_set])
            refine lv_iinc (v := nI (i10 + 1)) (lv' := [(3, .int (nI (i10 + 1))), (4, .int ((1))), (0, .ref (ad 0 0)), (1, .ref (ad (k + 1) 0)), (2, .ref (ea 0))]) hC.1 hC.2.1 dX2_layOver_74 hl (k := 1) rfl (n_inc _) (by decide) rfl (fun ls hl => ?_)
            refine lv_goto (tgt := 10) hC.1 hC.2.1 dX2_layOver_77 (by decide) ?_
            have hs4 : ∀ j, rOk (lFn x F u j (fill O r)) := fun j => (hs.fil O).lfn x F hu j
            have hσ : kSet (κ) (k) (rPut (lFn x F u (i10) (fill O r)) i10 (F i10) (u)) = kSet (κ) (k) (lFn x F u (i10 + 1) (fill O r)) := by
              simp only [lFn, lFs, if_neg c_22, if_pos c_31, if_neg c_56, if_true, if_false]
            exact ih10 (i10 + 1) (by omega) _ _ (hG.eq (by rw [hσ])) ls (lv_sub hl [0, 2, 3, 4] rfl)
  exact lp10 4 0 (by omega) _ _ hG ls (lv_sub hl [0, 1, 2, 3] rfl)
set_option maxHeartbeats 4000000 in
theorem xt_count (l : Launch) (K : GK) (A : Nat → Prop) (G0 : GM) (t lo : Nat) (ad : Nat → Nat → Nat) (κ : KS)  : Met l yX2_count (ws_ yX2_count cX2_count 6 (some .int)) ({ frames := 0, cells := 0, slots := 0, locals := 0 }) (va_Pc ([.ref (ad 0 0)]) (gW K A (cput K.2.1 t (lo) ad (κ) G0))) (vp_Si (fun r9 => r9 = kCnt κ 80)) 0 0 (fun _ => False) := by
  refine g_ofW (cc := cX2_count) (by decide) (own := RX2) rfl (Nat.le_of_ble_eq_true rfl) ?_
  intro p e s m below meth c hC hr hlocks hnm hE hG ls hl
  have hl : lv_has ls 6 [(0, .ref (ad 0 0))] := hl
  refine lv_iconst (v := 0) hC.1 hC.2.1 dX2_count_0 (by decide) ?_
  refine lv_istore_n (lv' := [(1, .int ((0))), (0, .ref (ad 0 0))]) hC.1 hC.2.1 dX2_count_1 rfl hl (by decide) rfl (fun ls hl => ?_)
  refine lv_aload_n hC.1 hC.2.1 dX2_count_2 rfl (lv_at hl 1 rfl) ?_
  refine g_get hC hE hG in_X2 (cput_o) (ci := 1) rfl 0 (by decide) q92 (fun _ z => z) rfl dX2_count_3 ?_
  refine lv_astore_n (lv' := [(2, .ref (ad 0 1)), (1, .int ((0))), (0, .ref (ad 0 0))]) hC.1 hC.2.1 dX2_count_6 rfl hl (by decide) rfl (fun ls hl => ?_)
  refine lv_aload_n hC.1 hC.2.1 dX2_count_7 rfl (lv_at hl 0 rfl) ?_
  refine g_alen hC hE hG 4 (cput_r) rfl (v := 80) rfl dX2_count_8 ?_
  refine lv_istore_n (lv' := [(3, .int ((80))), (2, .ref (ad 0 1)), (1, .int ((0))), (0, .ref (ad 0 0))]) hC.1 hC.2.1 dX2_count_9 rfl hl (by decide) rfl (fun ls hl => ?_)
  refine lv_iconst (v := 0) hC.1 hC.2.1 dX2_count_10 (by decide) ?_
  refine lv_istore (lv' := [(4, .int ((0))), (3, .int ((80))), (2, .ref (ad 0 1)), (1, .int ((0))), (0, .ref (ad 0 0))]) hC.1 hC.2.1 dX2_count_11 hl (by decide) rfl (fun ls hl => ?_)
  have lp13 : ∀ (nn i13 : Nat), i13 + nn = 80 → ∀ ls : Array Slot, lv_has ls 6 [(4, .int (nI (i13))), (3, .int ((80))), (2, .ref (ad 0 1)), (1, .int (kCnt κ (i13))), (0, .ref (ad 0 0))] → W p l e ({ frames := 0, cells := 0, slots := 0, locals := 0 }) s m ([.ref (ad 0 0)] : List Value).toArray below meth c s.heap [] 0 0 (MQ below (vp_Si (fun r9 => r9 = kCnt κ 80)) ([.ref (ad 0 0)] : List Value).toArray s 0 0 (fun _ => False)) (F0 m 13 ls []) := by
    intro nn
    induction nn with
    | zero =>
      intro i13 hi13 ls hl
      obtain rfl : 80 = i13 := by omega
      refine lv_iload hC.1 hC.2.1 dX2_count_13 (lv_at hl 0 rfl) ?_
      refine lv_iload_n hC.1 hC.2.1 dX2_count_15 rfl (lv_at hl 1 rfl) ?_
      refine n_ge (a := 80) (b := 80) hC (by omega) (by omega) (tgt := 44) dX2_count_16 (by decide) (fun c_16 => ?_) (fun c_16 => absurd c_16 (by omega))
      refine lv_iload_n hC.1 hC.2.1 dX2_count_44 rfl (lv_at hl 3 rfl) ?_
      exact g_roret hC hr (rfl) (by rfl) hlocks dX2_count_45
    | succ nn ih13 =>
      intro i13 hi13 ls hl
      have hlt13 : i13 < 80 := by omega
      refine lv_iload hC.1 hC.2.1 dX2_count_13 (lv_at hl 0 rfl) ?_
      refine lv_iload_n hC.1 hC.2.1 dX2_count_15 rfl (lv_at hl 1 rfl) ?_
      refine n_ge (a := i13) (b := 80) hC (by omega) (by omega) (tgt := 44) dX2_count_16 (by decide) (fun c_16 => absurd c_16 (by omega)) (fun c_16 => ?_)
      refine lv_aload_n hC.1 hC.2.1 dX2_count_19 rfl (lv_at hl 2 rfl) ?_
      refine lv_iload hC.1 hC.2.1 dX2_count_20 (lv_at hl 0 rfl) ?_
      rcases hk_22 : (κ).1 (i13) with _ | r_22
      · skip
        refine g_qld hC hE hG 4 (cput_r) rfl (by decide) (j := i13) (by omega) (v := .null) (by rw [crow_e hk_22]; rfl) dX2_count_22 ?_
        refine lv_astoreN (lv' := [(5, .null), (4, .int (nI (i13))), (3, .int ((80))), (2, .ref (ad 0 1)), (1, .int (kCnt κ (i13))), (0, .ref (ad 0 0))]) hC.1 hC.2.1 dX2_count_23 hl (by decide) rfl (fun ls hl => ?_)
        refine lv_iload_n hC.1 hC.2.1 dX2_count_25 rfl (lv_at hl 4 rfl) ?_
        refine lv_aloadN hC.1 hC.2.1 dX2_count_26 (lv_at hl 0 rfl) ?_
        refine lv_ifnonnullN hC.1 hC.2.1 dX2_count_28 ?_
        refine lv_iconst (v := 0) hC.1 hC.2.1 dX2_count_31 (by decide) ?_
        refine lv_goto (tgt := 36) hC.1 hC.2.1 dX2_count_32 (by decide) ?_
        refine lv_iadd hC.1 hC.2.1 dX2_count_36 ?_
        refine lv_istore_n (lv' := [(1, .int ((kCnt κ (i13)) + (0))), (5, .null), (4, .int (nI (i13))), (3, .int ((80))), (2, .ref (ad 0 1)), (0, .ref (ad 0 0))]) hC.1 hC.2.1 dX2_count_37 rfl hl (by decide) rfl (fun ls hl => ?_)
        refine lv_iinc (v := nI (i13 + 1)) (lv' := [(4, .int (nI (i13 + 1))), (1, .int ((kCnt κ (i13)) + (0))), (5, .null), (3, .int ((80))), (2, .ref (ad 0 1)), (0, .ref (ad 0 0))]) hC.1 hC.2.1 dX2_count_38 hl (k := 2) rfl (n_inc _) (by decide) rfl (fun ls hl => ?_)
        refine lv_goto (tgt := 13) hC.1 hC.2.1 dX2_count_41 (by decide) ?_
        have hl : lv_has ls 6 [(4, .int (nI (i13 + 1))), (1, .int (kCnt κ (i13 + 1))), (3, .int ((80))), (2, .ref (ad 0 1)), (0, .ref (ad 0 0))] := by
          have e1 : kCnt κ (i13 + 1) = (kCnt κ (i13)) + (0) := by
            simp only [kCnt, hk_22, if_true, if_false]
          rw [e1]
          exact lv_sub hl [0, 1, 3, 4, 5] rfl
        exact ih13 (i13 + 1) (by omega) ls (lv_sub hl [0, 2, 3, 1, 4] rfl)
      · skip
        refine g_qld hC hE hG 4 (cput_r) rfl (by decide) (j := i13) (by omega) (v := .ref (ad (i13 + 1) 0)) (by rw [crow_s hk_22]; rfl) dX2_count_22 ?_
        refine lv_astore (lv' := [(5, .ref (ad (i13 + 1) 0)), (4, .int (nI (i13))), (3, .int ((80))), (2, .ref (ad 0 1)), (1, .int (kCnt κ (i13))), (0, .ref (ad 0 0))]) hC.1 hC.2.1 dX2_count_23 hl (by decide) rfl (fun ls hl => ?_)
        refine lv_iload_n hC.1 hC.2.1 dX2_count_25 rfl (lv_at hl 4 rfl) ?_
        refine lv_aload hC.1 hC.2.1 dX2_count_26 (lv_at hl 0 rfl) ?_
        refine lv_ifnonnull hC.1 hC.2.1 dX2_count_28 (tgt := 35) (by decide) ?_
        refine lv_iconst (v := 1) hC.1 hC.2.1 dX2_count_35 (by decide) ?_
        refine lv_iadd hC.1 hC.2.1 dX2_count_36 ?_
        refine lv_istore_n (lv' := [(1, .int ((kCnt κ (i13)) + (1))), (5, .ref (ad (i13 + 1) 0)), (4, .int (nI (i13))), (3, .int ((80))), (2, .ref (ad 0 1)), (0, .ref (ad 0 0))]) hC.1 hC.2.1 dX2_count_37 rfl hl (by decide) rfl (fun ls hl => ?_)
        refine lv_iinc (v := nI (i13 + 1)) (lv' := [(4, .int (nI (i13 + 1))), (1, .int ((kCnt κ (i13)) + (1))), (5, .ref (ad (i13 + 1) 0)), (3, .int ((80))), (2, .ref (ad 0 1)), (0, .ref (ad 0 0))]) hC.1 hC.2.1 dX2_count_38 hl (k := 2) rfl (n_inc _) (by decide) rfl (fun ls hl => ?_)
        refine lv_goto (tgt := 13) hC.1 hC.2.1 dX2_count_41 (by decide) ?_
        have hl : lv_has ls 6 [(4, .int (nI (i13 + 1))), (1, .int (kCnt κ (i13 + 1))), (3, .int ((80))), (2, .ref (ad 0 1)), (0, .ref (ad 0 0))] := by
          have e1 : kCnt κ (i13 + 1) = (kCnt κ (i13)) + (1) := by
            simp only [kCnt, hk_22, if_true, if_false]
          rw [e1]
          exact lv_sub hl [0, 1, 3, 4, 5] rfl
        exact ih13 (i13 + 1) (by omega) ls (lv_sub hl [0, 2, 3, 1, 4] rfl)
  exact lp13 80 0 (by omega) ls (lv_sub hl [0, 1, 2, 3, 4] rfl)
set_option maxHeartbeats 4000000 in
theorem xt_digest (l : Launch) (K : GK) (A : Nat → Prop) (G0 : GM) (t lo : Nat) (ad : Nat → Nat → Nat) (κ : KS)  : Met l yX2_digest (ws_ yX2_digest cX2_digest 8 (some .int)) ({ frames := 1, cells := 0, slots := 0, locals := 21 }) (va_Pc ([.ref (ad 0 0)]) (gW K A (cput K.2.1 t (lo) ad (κ) G0))) (vp_Si (fun r9 => r9 = kSum κ 80)) 0 0 (fun _ => False) := by
  refine g_ofW (cc := cX2_digest) (by decide) (own := RX2) rfl (Nat.le_of_ble_eq_true rfl) ?_
  intro p e s m below meth c hC hr hlocks hnm hE hG ls hl
  have hl : lv_has ls 8 [(0, .ref (ad 0 0))] := hl
  refine lv_iconst (v := 0) hC.1 hC.2.1 dX2_digest_0 (by decide) ?_
  refine lv_istore_n (lv' := [(1, .int ((0))), (0, .ref (ad 0 0))]) hC.1 hC.2.1 dX2_digest_1 rfl hl (by decide) rfl (fun ls hl => ?_)
  refine lv_iconst (v := 0) hC.1 hC.2.1 dX2_digest_2 (by decide) ?_
  refine lv_istore_n (lv' := [(2, .int ((0))), (1, .int ((0))), (0, .ref (ad 0 0))]) hC.1 hC.2.1 dX2_digest_3 rfl hl (by decide) rfl (fun ls hl => ?_)
  have lp4 : ∀ (nn i4 : Nat), i4 + nn = 80 → ∀ ls : Array Slot, lv_has ls 8 [(2, .int (nI (i4))), (1, .int (kSum κ (i4))), (0, .ref (ad 0 0))] → W p l e ({ frames := 1, cells := 0, slots := 0, locals := 21 }) s m ([.ref (ad 0 0)] : List Value).toArray below meth c s.heap [] 0 0 (MQ below (vp_Si (fun r9 => r9 = kSum κ 80)) ([.ref (ad 0 0)] : List Value).toArray s 0 0 (fun _ => False)) (F0 m 4 ls []) := by
    intro nn
    induction nn with
    | zero =>
      intro i4 hi4 ls hl
      obtain rfl : 80 = i4 := by omega
      refine lv_iload_n hC.1 hC.2.1 dX2_digest_4 rfl (lv_at hl 0 rfl) ?_
      refine lv_bipush (v := 80) hC.1 hC.2.1 dX2_digest_5 (by decide) ?_
      refine n_ge (a := 80) (b := 80) hC (by omega) (by omega) (tgt := 141) dX2_digest_7 (by decide) (fun c_7 => ?_) (fun c_7 => absurd c_7 (by omega))
      refine lv_iload_n hC.1 hC.2.1 dX2_digest_141 rfl (lv_at hl 1 rfl) ?_
      exact g_roret hC hr (rfl) (by rfl) hlocks dX2_digest_142
    | succ nn ih4 =>
      intro i4 hi4 ls hl
      have hlt4 : i4 < 80 := by omega
      refine lv_iload_n hC.1 hC.2.1 dX2_digest_4 rfl (lv_at hl 0 rfl) ?_
      refine lv_bipush (v := 80) hC.1 hC.2.1 dX2_digest_5 (by decide) ?_
      refine n_ge (a := i4) (b := 80) hC (by omega) (by omega) (tgt := 141) dX2_digest_7 (by decide) (fun c_7 => absurd c_7 (by omega)) (fun c_7 => ?_)
      refine lv_aload_n hC.1 hC.2.1 dX2_digest_10 rfl (lv_at hl 2 rfl) ?_
      refine g_get hC hE hG in_X2 (cput_o) (ci := 1) rfl 0 (by decide) q92 (fun _ z => z) rfl dX2_digest_11 ?_
      refine lv_iload_n hC.1 hC.2.1 dX2_digest_14 rfl (lv_at hl 0 rfl) ?_
      rcases hk_15 : (κ).1 (i4) with _ | r_15
      · skip
        refine g_qld hC hE hG 4 (cput_r) rfl (by decide) (j := i4) (by omega) (v := .null) (by rw [crow_e hk_15]; rfl) dX2_digest_15 ?_
        refine lv_ifnullN hC.1 hC.2.1 dX2_digest_16 (tgt := 135) (by decide) ?_
        refine lv_iinc (v := nI (i4 + 1)) (lv' := [(2, .int (nI (i4 + 1))), (1, .int (kSum κ (i4))), (0, .ref (ad 0 0))]) hC.1 hC.2.1 dX2_digest_135 hl (k := 0) rfl (n_inc _) (by decide) rfl (fun ls hl => ?_)
        refine lv_goto (tgt := 4) hC.1 hC.2.1 dX2_digest_138 (by decide) ?_
        have hl : lv_has ls 8 [(2, .int (nI (i4 + 1))), (1, .int (kSum κ (i4 + 1))), (0, .ref (ad 0 0))] := by
          have e1 : kSum κ (i4 + 1) = kSum κ (i4) := by
            simp only [kSum, hk_15, if_true, if_false]
          rw [e1]
          exact lv_sub hl [0, 1, 2] rfl
        exact ih4 (i4 + 1) (by omega) ls (lv_sub hl [0, 1, 2] rfl)
      · skip
        refine g_qld hC hE hG 4 (cput_r) rfl (by decide) (j := i4) (by omega) (v := .ref (ad (i4 + 1) 0)) (by rw [crow_s hk_15]; rfl) dX2_digest_15 ?_
        refine lv_ifnull hC.1 hC.2.1 dX2_digest_16 ?_
        refine lv_iconst (v := 0) hC.1 hC.2.1 dX2_digest_19 (by decide) ?_
        refine lv_istore_n (lv' := [(3, .int ((0))), (2, .int (nI (i4))), (1, .int (kSum κ (i4))), (0, .ref (ad 0 0))]) hC.1 hC.2.1 dX2_digest_20 rfl hl (by decide) rfl (fun ls hl => ?_)
        refine lv_aload_n hC.1 hC.2.1 dX2_digest_21 rfl (lv_at hl 3 rfl) ?_
        refine g_get hC hE hG in_X2 (cput_o) (ci := 1) rfl 0 (by decide) q92 (fun _ z => z) rfl dX2_digest_22 ?_
        refine lv_iload_n hC.1 hC.2.1 dX2_digest_25 rfl (lv_at hl 1 rfl) ?_
        refine g_qld hC hE hG 4 (cput_r) rfl (by decide) (j := i4) (by omega) (v := .ref (ad (i4 + 1) 0)) (by rw [crow_s hk_15]; rfl) dX2_digest_26 ?_
        refine g_getN hC hE hG in_X5 (cput_ro hk_15) (ci := 4) rfl 0 (by decide) 11 rfl (fun _ z => z) rfl dX2_digest_27 ?_
        refine lv_astore (lv' := [(4, .ref (ad (i4 + 1) 1)), (3, .int ((0))), (2, .int (nI (i4))), (1, .int (kSum κ (i4))), (0, .ref (ad 0 0))]) hC.1 hC.2.1 dX2_digest_30 hl (by decide) rfl (fun ls hl => ?_)
        refine lv_aload hC.1 hC.2.1 dX2_digest_32 (lv_at hl 0 rfl) ?_
        refine g_alen hC hE hG 0 (cput_r1 hk_15) rfl (v := 3) rfl dX2_digest_34 ?_
        refine lv_istore (lv' := [(5, .int ((3))), (4, .ref (ad (i4 + 1) 1)), (3, .int ((0))), (2, .int (nI (i4))), (1, .int (kSum κ (i4))), (0, .ref (ad 0 0))]) hC.1 hC.2.1 dX2_digest_35 hl (by decide) rfl (fun ls hl => ?_)
        refine lv_iconst (v := 0) hC.1 hC.2.1 dX2_digest_37 (by decide) ?_
        refine lv_istore (lv' := [(6, .int ((0))), (5, .int ((3))), (4, .ref (ad (i4 + 1) 1)), (3, .int ((0))), (2, .int (nI (i4))), (1, .int (kSum κ (i4))), (0, .ref (ad 0 0))]) hC.1 hC.2.1 dX2_digest_38 hl (by decide) rfl (fun ls hl => ?_)
        have lp40 : ∀ (nn i40 : Nat), i40 + nn = 3 → ∀ ls : Array Slot, lv_has ls 8 [(6, .int (nI (i40))), (5, .int ((3))), (4, .ref (ad (i4 + 1) 1)), (3, .int (rVk r_15 (i40))), (2, .int (nI (i4))), (1, .int (kSum κ (i4))), (0, .ref (ad 0 0))] → W p l e ({ frames := 1, cells := 0, slots := 0, locals := 21 }) s m ([.ref (ad 0 0)] : List Value).toArray below meth c s.heap [] 0 0 (MQ below (vp_Si (fun r9 => r9 = kSum κ 80)) ([.ref (ad 0 0)] : List Value).toArray s 0 0 (fun _ => False)) (F0 m 40 ls []) := by
          intro nn
          induction nn with
          | zero =>
            intro i40 hi40 ls hl
            obtain rfl : 3 = i40 := by omega
            refine lv_iload hC.1 hC.2.1 dX2_digest_40 (lv_at hl 0 rfl) ?_
            refine lv_iload hC.1 hC.2.1 dX2_digest_42 (lv_at hl 1 rfl) ?_
            refine n_ge (a := 3) (b := 3) hC (by omega) (by omega) (tgt := 69) dX2_digest_44 (by decide) (fun c_44 => ?_) (fun c_44 => absurd c_44 (by omega))
            refine lv_aload_n hC.1 hC.2.1 dX2_digest_69 rfl (lv_at hl 6 rfl) ?_
            refine g_get hC hE hG in_X2 (cput_o) (ci := 1) rfl 0 (by decide) q92 (fun _ z => z) rfl dX2_digest_70 ?_
            refine lv_iload_n hC.1 hC.2.1 dX2_digest_73 rfl (lv_at hl 4 rfl) ?_
            refine g_qld hC hE hG 4 (cput_r) rfl (by decide) (j := i4) (by omega) (v := .ref (ad (i4 + 1) 0)) (by rw [crow_s hk_15]; rfl) dX2_digest_74 ?_
            refine g_getN hC hE hG in_X5 (cput_ro hk_15) (ci := 4) rfl 1 (by decide) 12 rfl (fun _ z => z) rfl dX2_digest_75 ?_
            refine lv_astore (lv' := [(4, .ref (ad (i4 + 1) 2)), (6, .int (nI (3))), (5, .int ((3))), (3, .int (rVk r_15 (3))), (2, .int (nI (i4))), (1, .int (kSum κ (i4))), (0, .ref (ad 0 0))]) hC.1 hC.2.1 dX2_digest_78 hl (by decide) rfl (fun ls hl => ?_)
            refine lv_aload hC.1 hC.2.1 dX2_digest_80 (lv_at hl 0 rfl) ?_
            refine g_alen hC hE hG 0 (cput_r2 hk_15) rfl (v := 4) rfl dX2_digest_82 ?_
            refine lv_istore (lv' := [(5, .int ((4))), (4, .ref (ad (i4 + 1) 2)), (6, .int (nI (3))), (3, .int (rVk r_15 (3))), (2, .int (nI (i4))), (1, .int (kSum κ (i4))), (0, .ref (ad 0 0))]) hC.1 hC.2.1 dX2_digest_83 hl (by decide) rfl (fun ls hl => ?_)
            refine lv_iconst (v := 0) hC.1 hC.2.1 dX2_digest_85 (by decide) ?_
            refine lv_istore (lv' := [(6, .int ((0))), (5, .int ((4))), (4, .ref (ad (i4 + 1) 2)), (3, .int (rVk r_15 (3))), (2, .int (nI (i4))), (1, .int (kSum κ (i4))), (0, .ref (ad 0 0))]) hC.1 hC.2.1 dX2_digest_86 hl (by decide) rfl (fun ls hl => ?_)
            have lp88 : ∀ (nn i88 : Nat), i88 + nn = 4 → ∀ ls : Array Slot, lv_has ls 8 [(6, .int (nI (i88))), (5, .int ((4))), (4, .ref (ad (i4 + 1) 2)), (3, .int (rVf r_15 (i88))), (2, .int (nI (i4))), (1, .int (kSum κ (i4))), (0, .ref (ad 0 0))] → W p l e ({ frames := 1, cells := 0, slots := 0, locals := 21 }) s m ([.ref (ad 0 0)] : List Value).toArray below meth c s.heap [] 0 0 (MQ below (vp_Si (fun r9 => r9 = kSum κ 80)) ([.ref (ad 0 0)] : List Value).toArray s 0 0 (fun _ => False)) (F0 m 88 ls []) := by
              intro nn
              induction nn with
              | zero =>
                intro i88 hi88 ls hl
                obtain rfl : 4 = i88 := by omega
                refine lv_iload hC.1 hC.2.1 dX2_digest_88 (lv_at hl 0 rfl) ?_
                refine lv_iload hC.1 hC.2.1 dX2_digest_90 (lv_at hl 1 rfl) ?_
                refine n_ge (a := 4) (b := 4) hC (by omega) (by omega) (tgt := 117) dX2_digest_92 (by decide) (fun c_92 => ?_) (fun c_92 => absurd c_92 (by omega))
                refine lv_iload_n hC.1 hC.2.1 dX2_digest_117 rfl (lv_at hl 5 rfl) ?_
                refine lv_iload_n hC.1 hC.2.1 dX2_digest_118 rfl (lv_at hl 3 rfl) ?_
                refine lv_iload_n hC.1 hC.2.1 dX2_digest_119 rfl (lv_at hl 4 rfl) ?_
                refine lv_iconst (v := 1) hC.1 hC.2.1 dX2_digest_120 (by decide) ?_
                refine n_add (a := i4) (b := 1) (d := i4 + 1) hC (by first | rfl | omega) dX2_digest_121 ?_
                refine lv_imul hC.1 hC.2.1 dX2_digest_122 ?_
                refine lv_aload_n hC.1 hC.2.1 dX2_digest_123 rfl (lv_at hl 6 rfl) ?_
                refine g_get hC hE hG in_X2 (cput_o) (ci := 1) rfl 0 (by decide) q92 (fun _ z => z) rfl dX2_digest_124 ?_
                refine lv_iload_n hC.1 hC.2.1 dX2_digest_127 rfl (lv_at hl 4 rfl) ?_
                refine g_qld hC hE hG 4 (cput_r) rfl (by decide) (j := i4) (by omega) (v := .ref (ad (i4 + 1) 0)) (by rw [crow_s hk_15]; rfl) dX2_digest_128 ?_
                refine g_getN hC hE hG in_X5 (cput_ro hk_15) (ci := 4) rfl 4 (by decide) 15 rfl (fun _ z => z) rfl dX2_digest_129 ?_
                refine lv_iadd hC.1 hC.2.1 dX2_digest_132 ?_
                refine lv_iadd hC.1 hC.2.1 dX2_digest_133 ?_
                refine lv_istore_n (lv' := [(1, .int ((kSum κ (i4)) + (((rVf r_15 (4)) * (nI (i4 + 1))) + r_15.2))), (6, .int (nI (4))), (5, .int ((4))), (4, .ref (ad (i4 + 1) 2)), (3, .int (rVf r_15 (4))), (2, .int (nI (i4))), (0, .ref (ad 0 0))]) hC.1 hC.2.1 dX2_digest_134 rfl hl (by decide) rfl (fun ls hl => ?_)
                refine lv_iinc (v := nI (i4 + 1)) (lv' := [(2, .int (nI (i4 + 1))), (1, .int ((kSum κ (i4)) + (((rVf r_15 (4)) * (nI (i4 + 1))) + r_15.2))), (6, .int (nI (4))), (5, .int ((4))), (4, .ref (ad (i4 + 1) 2)), (3, .int (rVf r_15 (4))), (0, .ref (ad 0 0))]) hC.1 hC.2.1 dX2_digest_135 hl (k := 5) rfl (n_inc _) (by decide) rfl (fun ls hl => ?_)
                refine lv_goto (tgt := 4) hC.1 hC.2.1 dX2_digest_138 (by decide) ?_
                have hl : lv_has ls 8 [(2, .int (nI (i4 + 1))), (1, .int (kSum κ (i4 + 1))), (0, .ref (ad 0 0))] := by
                  have e1 : kSum κ (i4 + 1) = (kSum κ (i4)) + (((rVf r_15 (4)) * (nI (i4 + 1))) + r_15.2) := by
                    simp only [kSum, hk_15, if_true, if_false]
                  rw [e1]
                  exact lv_sub hl [0, 1, 6] rfl
                exact ih4 (i4 + 1) (by omega) ls (lv_sub hl [0, 1, 2] rfl)
              | succ nn ih88 =>
                intro i88 hi88 ls hl
                have hlt88 : i88 < 4 := by omega
                refine lv_iload hC.1 hC.2.1 dX2_digest_88 (lv_at hl 0 rfl) ?_
                refine lv_iload hC.1 hC.2.1 dX2_digest_90 (lv_at hl 1 rfl) ?_
                refine n_ge (a := i88) (b := 4) hC (by omega) (by omega) (tgt := 117) dX2_digest_92 (by decide) (fun c_92 => absurd c_92 (by omega)) (fun c_92 => ?_)
                refine lv_aload hC.1 hC.2.1 dX2_digest_95 (lv_at hl 2 rfl) ?_
                refine lv_iload hC.1 hC.2.1 dX2_digest_97 (lv_at hl 0 rfl) ?_
                refine g_ild hC hE hG (n := 4) (cput_r2 hk_15) (by decide) (j := i88) (v := r_15.1 2 i88) (by omega) (rfl) dX2_digest_99 ?_
                refine lv_istore (lv' := [(7, .int (r_15.1 2 i88)), (6, .int (nI (i88))), (5, .int ((4))), (4, .ref (ad (i4 + 1) 2)), (3, .int (rVf r_15 (i88))), (2, .int (nI (i4))), (1, .int (kSum κ (i4))), (0, .ref (ad 0 0))]) hC.1 hC.2.1 dX2_digest_100 hl (by decide) rfl (fun ls hl => ?_)
                refine lv_iload_n hC.1 hC.2.1 dX2_digest_102 rfl (lv_at hl 4 rfl) ?_
                refine lv_iconst (v := 0) hC.1 hC.2.1 dX2_digest_103 (by decide) ?_
                refine lv_iload hC.1 hC.2.1 dX2_digest_104 (lv_at hl 0 rfl) ?_
                refine va_mmax (rest := [.int (rVf r_15 (i88))]) hC.1 hC.2.1 (hC.2.2.1.trans hl.1.symm) hC.2.2.2.1 (hC.2.2.2.2 _ q179) (hC.2.2.2.2 _ q180) (hC.2.2.2.2 _ q37) (hC.2.2.2.2 _ q181) (Nat.le_of_ble_eq_true rfl) (Nat.le_of_ble_eq_true rfl) (Nat.le_of_ble_eq_true rfl) (Nat.le_of_ble_eq_true rfl) dX2_digest_106 ?_
                refine lv_iadd hC.1 hC.2.1 dX2_digest_109 ?_
                refine lv_istore_n (lv' := [(3, .int ((rVf r_15 (i88)) + (mx0 (r_15.1 2 i88)))), (7, .int (r_15.1 2 i88)), (6, .int (nI (i88))), (5, .int ((4))), (4, .ref (ad (i4 + 1) 2)), (2, .int (nI (i4))), (1, .int (kSum κ (i4))), (0, .ref (ad 0 0))]) hC.1 hC.2.1 dX2_digest_110 rfl hl (by decide) rfl (fun ls hl => ?_)
                refine lv_iinc (v := nI (i88 + 1)) (lv' := [(6, .int (nI (i88 + 1))), (3, .int ((rVf r_15 (i88)) + (mx0 (r_15.1 2 i88)))), (7, .int (r_15.1 2 i88)), (5, .int ((4))), (4, .ref (ad (i4 + 1) 2)), (2, .int (nI (i4))), (1, .int (kSum κ (i4))), (0, .ref (ad 0 0))]) hC.1 hC.2.1 dX2_digest_111 hl (k := 2) rfl (n_inc _) (by decide) rfl (fun ls hl => ?_)
                refine lv_goto (tgt := 88) hC.1 hC.2.1 dX2_digest_114 (by decide) ?_
                have hl : lv_has ls 8 [(6, .int (nI (i88 + 1))), (3, .int (rVf r_15 (i88 + 1))), (5, .int ((4))), (4, .ref (ad (i4 + 1) 2)), (2, .int (nI (i4))), (1, .int (kSum κ (i4))), (0, .ref (ad 0 0))] := by
                  have e3 : rVf r_15 (i88 + 1) = (rVf r_15 (i88)) + (mx0 (r_15.1 2 i88)) := by
                    simp only [rVf, hk_15, if_true, if_false]
                  rw [e3]
                  exact lv_sub hl [0, 1, 3, 4, 5, 6, 7] rfl
                exact ih88 (i88 + 1) (by omega) ls (lv_sub hl [0, 2, 3, 1, 4, 5, 6] rfl)
            exact lp88 4 0 (by omega) ls (lv_sub hl [0, 1, 2, 3, 4, 5, 6] rfl)
          | succ nn ih40 =>
            intro i40 hi40 ls hl
            have hlt40 : i40 < 3 := by omega
            refine lv_iload hC.1 hC.2.1 dX2_digest_40 (lv_at hl 0 rfl) ?_
            refine lv_iload hC.1 hC.2.1 dX2_digest_42 (lv_at hl 1 rfl) ?_
            refine n_ge (a := i40) (b := 3) hC (by omega) (by omega) (tgt := 69) dX2_digest_44 (by decide) (fun c_44 => absurd c_44 (by omega)) (fun c_44 => ?_)
            refine lv_aload hC.1 hC.2.1 dX2_digest_47 (lv_at hl 2 rfl) ?_
            refine lv_iload hC.1 hC.2.1 dX2_digest_49 (lv_at hl 0 rfl) ?_
            refine g_ild hC hE hG (n := 3) (cput_r1 hk_15) (by decide) (j := i40) (v := r_15.1 1 i40) (by omega) (rfl) dX2_digest_51 ?_
            refine lv_istore (lv' := [(7, .int (r_15.1 1 i40)), (6, .int (nI (i40))), (5, .int ((3))), (4, .ref (ad (i4 + 1) 1)), (3, .int (rVk r_15 (i40))), (2, .int (nI (i4))), (1, .int (kSum κ (i4))), (0, .ref (ad 0 0))]) hC.1 hC.2.1 dX2_digest_52 hl (by decide) rfl (fun ls hl => ?_)
            refine lv_iload_n hC.1 hC.2.1 dX2_digest_54 rfl (lv_at hl 4 rfl) ?_
            refine lv_iconst (v := 0) hC.1 hC.2.1 dX2_digest_55 (by decide) ?_
            refine lv_iload hC.1 hC.2.1 dX2_digest_56 (lv_at hl 0 rfl) ?_
            refine va_mmax (rest := [.int (rVk r_15 (i40))]) hC.1 hC.2.1 (hC.2.2.1.trans hl.1.symm) hC.2.2.2.1 (hC.2.2.2.2 _ q179) (hC.2.2.2.2 _ q180) (hC.2.2.2.2 _ q37) (hC.2.2.2.2 _ q181) (Nat.le_of_ble_eq_true rfl) (Nat.le_of_ble_eq_true rfl) (Nat.le_of_ble_eq_true rfl) (Nat.le_of_ble_eq_true rfl) dX2_digest_58 ?_
            refine lv_iadd hC.1 hC.2.1 dX2_digest_61 ?_
            refine lv_istore_n (lv' := [(3, .int ((rVk r_15 (i40)) + (mx0 (r_15.1 1 i40)))), (7, .int (r_15.1 1 i40)), (6, .int (nI (i40))), (5, .int ((3))), (4, .ref (ad (i4 + 1) 1)), (2, .int (nI (i4))), (1, .int (kSum κ (i4))), (0, .ref (ad 0 0))]) hC.1 hC.2.1 dX2_digest_62 rfl hl (by decide) rfl (fun ls hl => ?_)
            refine lv_iinc (v := nI (i40 + 1)) (lv' := [(6, .int (nI (i40 + 1))), (3, .int ((rVk r_15 (i40)) + (mx0 (r_15.1 1 i40)))), (7, .int (r_15.1 1 i40)), (5, .int ((3))), (4, .ref (ad (i4 + 1) 1)), (2, .int (nI (i4))), (1, .int (kSum κ (i4))), (0, .ref (ad 0 0))]) hC.1 hC.2.1 dX2_digest_63 hl (k := 2) rfl (n_inc _) (by decide) rfl (fun ls hl => ?_)
            refine lv_goto (tgt := 40) hC.1 hC.2.1 dX2_digest_66 (by decide) ?_
            have hl : lv_has ls 8 [(6, .int (nI (i40 + 1))), (3, .int (rVk r_15 (i40 + 1))), (5, .int ((3))), (4, .ref (ad (i4 + 1) 1)), (2, .int (nI (i4))), (1, .int (kSum κ (i4))), (0, .ref (ad 0 0))] := by
              have e3 : rVk r_15 (i40 + 1) = (rVk r_15 (i40)) + (mx0 (r_15.1 1 i40)) := by
                simp only [rVk, hk_15, if_true, if_false]
              rw [e3]
              exact lv_sub hl [0, 1, 3, 4, 5, 6, 7] rfl
            exact ih40 (i40 + 1) (by omega) ls (lv_sub hl [0, 2, 3, 1, 4, 5, 6] rfl)
        exact lp40 3 0 (by omega) ls (lv_sub hl [0, 1, 2, 3, 4, 5, 6] rfl)
  exact lp4 80 0 (by omega) ls (lv_sub hl [0, 1, 2] rfl)
