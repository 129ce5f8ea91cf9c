/-! the reference's methods, walked: part a (written by tools/mkmodel.py) -/
set_option maxRecDepth 100000
set_option maxHeartbeats 4000000 in
theorem mt_in (l : Launch) (x a b : Int32) : Met l yX3_in (ws_ yX3_in cX3_in 3 (some .boolean)) ({ frames := 0, cells := 0, slots := 0, locals := 0 }) (va_Pc [.int x, .int a, .int b] (fun _ => True)) (vp_Si (fun r => r = bI (inR x a b))) 0 0 (fun _ => False) := by
  refine g_ofP (cc := cX3_in) (by decide) (own := RX3) rfl (Nat.le_of_ble_eq_true rfl) ?_
  intro p e s m below meth c hC hr hlocks ls hl
  have hl : lv_has ls 3 [(0, .int x), (1, .int a), (2, .int b)] := hl
  refine lv_iload_n hC.1 hC.2.1 dX3_in_0 rfl (lv_at hl 0 rfl) ?_
  refine lv_iload_n hC.1 hC.2.1 dX3_in_1 rfl (lv_at hl 1 rfl) ?_
  refine lv_icmp_lt (tgt := 14) hC.1 hC.2.1 dX3_in_2 (by decide) (fun c1 => ?_) (fun c1 => ?_)
  · refine lv_iconst (v := 0) hC.1 hC.2.1 dX3_in_14 (by decide) ?_
    exact g_roret hC hr rfl (bI_f (fun h => Int32.not_lt.mpr h.1 c1)).symm hlocks dX3_in_15
  · refine lv_iload_n hC.1 hC.2.1 dX3_in_5 rfl (lv_at hl 0 rfl) ?_
    refine lv_iload_n hC.1 hC.2.1 dX3_in_6 rfl (lv_at hl 2 rfl) ?_
    refine lv_icmp_gt (tgt := 14) hC.1 hC.2.1 dX3_in_7 (by decide) (fun c2 => ?_) (fun c2 => ?_)
    · refine lv_iconst (v := 0) hC.1 hC.2.1 dX3_in_14 (by decide) ?_
      exact g_roret hC hr rfl (bI_f (fun h => Int32.not_lt.mpr h.2 c2)).symm hlocks dX3_in_15
    · refine lv_iconst (v := 1) hC.1 hC.2.1 dX3_in_10 (by decide) ?_
      refine lv_goto (tgt := 15) hC.1 hC.2.1 dX3_in_11 (by decide) ?_
      exact g_roret hC hr rfl (bI_t ⟨Int32.not_lt.mp c1, Int32.not_lt.mp c2⟩).symm hlocks dX3_in_15
set_option maxHeartbeats 4000000 in
theorem xt_in (l : Launch) (x a b : Int32) : Met l yX1_in (ws_ yX1_in cX1_in 3 (some .boolean)) ({ frames := 0, cells := 0, slots := 0, locals := 0 }) (va_Pc [.int x, .int a, .int b] (fun _ => True)) (vp_Si (fun r => r = bI (inR x a b))) 0 0 (fun _ => False) := by
  refine g_ofP (cc := cX1_in) (by decide) (own := RX1) rfl (Nat.le_of_ble_eq_true rfl) ?_
  intro p e s m below meth c hC hr hlocks ls hl
  have hl : lv_has ls 3 [(0, .int x), (1, .int a), (2, .int b)] := hl
  refine lv_iload_n hC.1 hC.2.1 dX1_in_0 rfl (lv_at hl 0 rfl) ?_
  refine lv_iload_n hC.1 hC.2.1 dX1_in_1 rfl (lv_at hl 1 rfl) ?_
  refine lv_icmp_lt (tgt := 14) hC.1 hC.2.1 dX1_in_2 (by decide) (fun c1 => ?_) (fun c1 => ?_)
  · refine lv_iconst (v := 0) hC.1 hC.2.1 dX1_in_14 (by decide) ?_
    exact g_roret hC hr rfl (bI_f (fun h => Int32.not_lt.mpr h.1 c1)).symm hlocks dX1_in_15
  · refine lv_iload_n hC.1 hC.2.1 dX1_in_5 rfl (lv_at hl 0 rfl) ?_
    refine lv_iload_n hC.1 hC.2.1 dX1_in_6 rfl (lv_at hl 2 rfl) ?_
    refine lv_icmp_gt (tgt := 14) hC.1 hC.2.1 dX1_in_7 (by decide) (fun c2 => ?_) (fun c2 => ?_)
    · refine lv_iconst (v := 0) hC.1 hC.2.1 dX1_in_14 (by decide) ?_
      exact g_roret hC hr rfl (bI_f (fun h => Int32.not_lt.mpr h.2 c2)).symm hlocks dX1_in_15
    · refine lv_iconst (v := 1) hC.1 hC.2.1 dX1_in_10 (by decide) ?_
      refine lv_goto (tgt := 15) hC.1 hC.2.1 dX1_in_11 (by decide) ?_
      exact g_roret hC hr rfl (bI_t ⟨Int32.not_lt.mp c1, Int32.not_lt.mp c2⟩).symm hlocks dX1_in_15
set_option maxHeartbeats 4000000 in
theorem mt_emptyDraft (l : Launch) (K : GK) (A : Nat → Prop) (G0 : GM) (h : Nat → Nat) (σ : MS)  : Met l yX3_emptyDraft (ws_ yX3_emptyDraft cX3_emptyDraft 2 none) ({ frames := 0, cells := 0, slots := 0, locals := 0 }) (va_Pc ([.ref (h 25)]) (gW K A (mput K.2.1 h (σ) G0))) (va_Qv (fun u9 : MS => u9 = mDraft σ) (fun u t => gB K A (mput K.2.1 h u G0) t) A) 0 0 (A) := by
  refine g_ofW (cc := cX3_emptyDraft) (by decide) (own := RX3) rfl (Nat.le_of_ble_eq_true rfl) ?_
  intro p e s m below meth c hC hr hlocks hnm hE hG ls hl
  have hl : lv_has ls 2 [(0, .ref (h 25))] := hl
  refine lv_iconst (v := 0) hC.1 hC.2.1 dX3_emptyDraft_0 (by decide) ?_
  refine lv_istore_n (lv' := [(1, .int ((0))), (0, .ref (h 25))]) hC.1 hC.2.1 dX3_emptyDraft_1 rfl hl (by decide) rfl (fun ls hl => ?_)
  have lp2 : ∀ (nn i2 : Nat), i2 + nn = 3 → ∀ (H : Heap) (locs : List Loc), gG K A s.heap (mput K.2.1 h (mD1 (i2) (σ)) G0) H locs → ∀ ls : Array Slot, lv_has ls 2 [(1, .int (nI (i2))), (0, .ref (h 25))] → W p l e ({ frames := 0, cells := 0, slots := 0, locals := 0 }) s m ([.ref (h 25)] : List Value).toArray below meth c H locs 0 0 (MQ below (va_Qv (fun u9 : MS => u9 = mDraft σ) (fun u t => gB K A (mput K.2.1 h u G0) t) A) ([.ref (h 25)] : List Value).toArray s 0 0 (A)) (F0 m 2 ls []) := by
    intro nn
    induction nn with
    | zero =>
      intro i2 hi2 H locs hG ls hl
      obtain rfl : 3 = i2 := by omega
      refine lv_iload_n hC.1 hC.2.1 dX3_emptyDraft_2 rfl (lv_at hl 0 rfl) ?_
      refine lv_iconst (v := 3) hC.1 hC.2.1 dX3_emptyDraft_3 (by decide) ?_
      refine n_ge (a := 3) (b := 3) hC (by omega) (by omega) (tgt := 20) dX3_emptyDraft_4 (by decide) (fun c_4 => ?_) (fun c_4 => absurd c_4 (by omega))
      refine lv_iconst (v := 0) hC.1 hC.2.1 dX3_emptyDraft_20 (by decide) ?_
      refine lv_istore_n (lv' := [(1, .int ((0))), (0, .ref (h 25))]) hC.1 hC.2.1 dX3_emptyDraft_21 rfl hl (by decide) rfl (fun ls hl => ?_)
      have lp22 : ∀ (nn i22 : Nat), i22 + nn = 4 → ∀ (H : Heap) (locs : List Loc), gG K A s.heap (mput K.2.1 h (mD2 (i22) (mD1 3 σ)) G0) H locs → ∀ ls : Array Slot, lv_has ls 2 [(1, .int (nI (i22))), (0, .ref (h 25))] → W p l e ({ frames := 0, cells := 0, slots := 0, locals := 0 }) s m ([.ref (h 25)] : List Value).toArray below meth c H locs 0 0 (MQ below (va_Qv (fun u9 : MS => u9 = mDraft σ) (fun u t => gB K A (mput K.2.1 h u G0) t) A) ([.ref (h 25)] : List Value).toArray s 0 0 (A)) (F0 m 22 ls []) := by
        intro nn
        induction nn with
        | zero =>
          intro i22 hi22 H locs hG ls hl
          obtain rfl : 4 = i22 := by omega
          refine lv_iload_n hC.1 hC.2.1 dX3_emptyDraft_22 rfl (lv_at hl 0 rfl) ?_
          refine lv_iconst (v := 4) hC.1 hC.2.1 dX3_emptyDraft_23 (by decide) ?_
          refine n_ge (a := 4) (b := 4) hC (by omega) (by omega) (tgt := 40) dX3_emptyDraft_24 (by decide) (fun c_24 => ?_) (fun c_24 => absurd c_24 (by omega))
          exact g_vret hC hG hr (mD2 (4) (mD1 3 σ)) rfl (by rfl) hlocks dX3_emptyDraft_40
        | succ nn ih22 =>
          intro i22 hi22 H locs hG ls hl
          have hlt22 : i22 < 4 := by omega
          refine lv_iload_n hC.1 hC.2.1 dX3_emptyDraft_22 rfl (lv_at hl 0 rfl) ?_
          refine lv_iconst (v := 4) hC.1 hC.2.1 dX3_emptyDraft_23 (by decide) ?_
          refine n_ge (a := i22) (b := 4) hC (by omega) (by omega) (tgt := 40) dX3_emptyDraft_24 (by decide) (fun c_24 => absurd c_24 (by omega)) (fun c_24 => ?_)
          refine lv_aload_n hC.1 hC.2.1 dX3_emptyDraft_27 rfl (lv_at hl 1 rfl) ?_
          refine m_geta hC hE hG 4 (by decide) (fun _ => rfl) q760 rfl dX3_emptyDraft_28 ?_
          refine lv_iload_n hC.1 hC.2.1 dX3_emptyDraft_31 rfl (lv_at hl 0 rfl) ?_
          refine lv_iconst (v := -1) hC.1 hC.2.1 dX3_emptyDraft_32 (by decide) ?_
          refine m_ist hC hE hG 4 (by decide) rfl (N := 4) rfl (by decide) (j := i22) (by omega) dX3_emptyDraft_33 (fun H locs hG => ?_)
          refine lv_iinc (v := nI (i22 + 1)) (lv' := [(1, .int (nI (i22 + 1))), (0, .ref (h 25))]) hC.1 hC.2.1 dX3_emptyDraft_34 hl (k := 0) rfl (n_inc _) (by decide) rfl (fun ls hl => ?_)
          refine lv_goto (tgt := 22) hC.1 hC.2.1 dX3_emptyDraft_37 (by decide) ?_
          have hσ : sU (mD2 (i22) (mD1 3 σ)) 4 (i22) ((-1)) = mD2 (i22 + 1) (mD1 3 σ) := by
            simp only [mD2, if_true, if_false]
          exact ih22 (i22 + 1) (by omega) _ _ (hG.eq (by rw [hσ])) ls (lv_sub hl [0, 1] rfl)
      exact lp22 4 0 (by omega) _ _ hG ls (lv_sub hl [0, 1] rfl)
    | succ nn ih2 =>
      intro i2 hi2 H locs hG ls hl
      have hlt2 : i2 < 3 := by omega
      refine lv_iload_n hC.1 hC.2.1 dX3_emptyDraft_2 rfl (lv_at hl 0 rfl) ?_
      refine lv_iconst (v := 3) hC.1 hC.2.1 dX3_emptyDraft_3 (by decide) ?_
      refine n_ge (a := i2) (b := 3) hC (by omega) (by omega) (tgt := 20) dX3_emptyDraft_4 (by decide) (fun c_4 => absurd c_4 (by omega)) (fun c_4 => ?_)
      refine lv_aload_n hC.1 hC.2.1 dX3_emptyDraft_7 rfl (lv_at hl 1 rfl) ?_
      refine m_geta hC hE hG 3 (by decide) (fun _ => rfl) q759 rfl dX3_emptyDraft_8 ?_
      refine lv_iload_n hC.1 hC.2.1 dX3_emptyDraft_11 rfl (lv_at hl 0 rfl) ?_
      refine lv_iconst (v := -1) hC.1 hC.2.1 dX3_emptyDraft_12 (by decide) ?_
      refine m_ist hC hE hG 3 (by decide) rfl (N := 3) rfl (by decide) (j := i2) (by omega) dX3_emptyDraft_13 (fun H locs hG => ?_)
      refine lv_iinc (v := nI (i2 + 1)) (lv' := [(1, .int (nI (i2 + 1))), (0, .ref (h 25))]) hC.1 hC.2.1 dX3_emptyDraft_14 hl (k := 0) rfl (n_inc _) (by decide) rfl (fun ls hl => ?_)
      refine lv_goto (tgt := 2) hC.1 hC.2.1 dX3_emptyDraft_17 (by decide) ?_
      have hσ : sU (mD1 (i2) (σ)) 3 (i2) ((-1)) = mD1 (i2 + 1) (σ) := by
        simp only [mD1, if_true, if_false]
      exact ih2 (i2 + 1) (by omega) _ _ (hG.eq (by rw [hσ])) ls (lv_sub hl [0, 1] rfl)
  exact lp2 3 0 (by omega) _ _ hG ls (lv_sub hl [0, 1] rfl)
set_option maxHeartbeats 4000000 in
theorem mt_makeRecord (l : Launch) (K : GK) (A : Nat → Prop) (G0 : GM) (h : Nat → Nat) (σ : MS) (n : Nat) (hn : n < 80) : Met l yX3_makeRecord (ws_ yX3_makeRecord cX3_makeRecord 4 none) ({ frames := 0, cells := 0, slots := 0, locals := 0 }) (va_Pc ([.ref (h 25), .int (nI (n))]) (gW K A (mput K.2.1 h (σ) G0))) (va_Qv (fun u9 : MS => u9 = mMake σ n) (fun u t => gB K A (mput K.2.1 h u G0) t) A) 0 0 (A) := by
  refine g_ofW (cc := cX3_makeRecord) (by decide) (own := RX3) rfl (Nat.le_of_ble_eq_true rfl) ?_
  intro p e s m below meth c hC hr hlocks hnm hE hG ls hl
  have hl : lv_has ls 4 [(0, .ref (h 25)), (1, .int (nI (n)))] := hl
  refine lv_aload_n hC.1 hC.2.1 dX3_makeRecord_0 rfl (lv_at hl 0 rfl) ?_
  refine m_geta hC hE hG 18 (by decide) (fun _ => rfl) q774 rfl dX3_makeRecord_1 ?_
  refine lv_iload_n hC.1 hC.2.1 dX3_makeRecord_4 rfl (lv_at hl 1 rfl) ?_
  refine lv_iconst (v := 1) hC.1 hC.2.1 dX3_makeRecord_5 (by decide) ?_
  refine m_zst hC hE hG 18 (by decide) rfl (N := 80) rfl (by decide) (j := n) (by omega) (rfl) dX3_makeRecord_6 (fun H locs hG => ?_)
  refine lv_aload_n hC.1 hC.2.1 dX3_makeRecord_7 rfl (lv_at hl 0 rfl) ?_
  refine m_geta hC hE hG 23 (by decide) (fun _ => rfl) q779 rfl dX3_makeRecord_8 ?_
  refine lv_iload_n hC.1 hC.2.1 dX3_makeRecord_11 rfl (lv_at hl 1 rfl) ?_
  refine lv_iconst (v := 0) hC.1 hC.2.1 dX3_makeRecord_12 (by decide) ?_
  refine m_ist hC hE hG 23 (by decide) rfl (N := 80) rfl (by decide) (j := n) (by omega) dX3_makeRecord_13 (fun H locs hG => ?_)
  refine lv_iconst (v := 0) hC.1 hC.2.1 dX3_makeRecord_14 (by decide) ?_
  refine lv_istore_n (lv' := [(2, .int ((0))), (0, .ref (h 25)), (1, .int (nI (n)))]) hC.1 hC.2.1 dX3_makeRecord_15 rfl hl (by decide) rfl (fun ls hl => ?_)
  have lp16 : ∀ (nn i16 : Nat), i16 + nn = 3 → ∀ (H : Heap) (locs : List Loc), gG K A s.heap (mput K.2.1 h (mMK n (i16) (sU (sU σ 18 n 1) 23 n 0)) G0) H locs → ∀ ls : Array Slot, lv_has ls 4 [(2, .int (nI (i16))), (0, .ref (h 25)), (1, .int (nI (n)))] → W p l e ({ frames := 0, cells := 0, slots := 0, locals := 0 }) s m ([.ref (h 25), .int (nI (n))] : List Value).toArray below meth c H locs 0 0 (MQ below (va_Qv (fun u9 : MS => u9 = mMake σ n) (fun u t => gB K A (mput K.2.1 h u G0) t) A) ([.ref (h 25), .int (nI (n))] : List Value).toArray s 0 0 (A)) (F0 m 16 ls []) := by
    intro nn
    induction nn with
    | zero =>
      intro i16 hi16 H locs hG ls hl
      obtain rfl : 3 = i16 := by omega
      refine lv_iload_n hC.1 hC.2.1 dX3_makeRecord_16 rfl (lv_at hl 0 rfl) ?_
      refine lv_iconst (v := 3) hC.1 hC.2.1 dX3_makeRecord_17 (by decide) ?_
      refine n_ge (a := 3) (b := 3) hC (by omega) (by omega) (tgt := 47) dX3_makeRecord_18 (by decide) (fun c_18 => ?_) (fun c_18 => absurd c_18 (by omega))
      refine lv_iconst (v := 0) hC.1 hC.2.1 dX3_makeRecord_47 (by decide) ?_
      refine lv_istore_n (lv' := [(2, .int ((0))), (0, .ref (h 25)), (1, .int (nI (n)))]) hC.1 hC.2.1 dX3_makeRecord_48 rfl hl (by decide) rfl (fun ls hl => ?_)
      have lp49 : ∀ (nn i49 : Nat), i49 + nn = 4 → ∀ (H : Heap) (locs : List Loc), gG K A s.heap (mput K.2.1 h (mMF n (i49) (mMK n 3 (sU (sU σ 18 n 1) 23 n 0))) G0) H locs → ∀ ls : Array Slot, lv_has ls 4 [(2, .int (nI (i49))), (0, .ref (h 25)), (1, .int (nI (n)))] → W p l e ({ frames := 0, cells := 0, slots := 0, locals := 0 }) s m ([.ref (h 25), .int (nI (n))] : List Value).toArray below meth c H locs 0 0 (MQ below (va_Qv (fun u9 : MS => u9 = mMake σ n) (fun u t => gB K A (mput K.2.1 h u G0) t) A) ([.ref (h 25), .int (nI (n))] : List Value).toArray s 0 0 (A)) (F0 m 49 ls []) := by
        intro nn
        induction nn with
        | zero =>
          intro i49 hi49 H locs hG ls hl
          obtain rfl : 4 = i49 := by omega
          refine lv_iload_n hC.1 hC.2.1 dX3_makeRecord_49 rfl (lv_at hl 0 rfl) ?_
          refine lv_iconst (v := 4) hC.1 hC.2.1 dX3_makeRecord_50 (by decide) ?_
          refine n_ge (a := 4) (b := 4) hC (by omega) (by omega) (tgt := 118) dX3_makeRecord_51 (by decide) (fun c_51 => ?_) (fun c_51 => absurd c_51 (by omega))
          exact g_vret hC hG hr (mMF n (4) (mMK n 3 (sU (sU σ 18 n 1) 23 n 0))) rfl (by rfl) hlocks dX3_makeRecord_118
        | succ nn ih49 =>
          intro i49 hi49 H locs hG ls hl
          have hlt49 : i49 < 4 := by omega
          refine lv_iload_n hC.1 hC.2.1 dX3_makeRecord_49 rfl (lv_at hl 0 rfl) ?_
          refine lv_iconst (v := 4) hC.1 hC.2.1 dX3_makeRecord_50 (by decide) ?_
          refine n_ge (a := i49) (b := 4) hC (by omega) (by omega) (tgt := 118) dX3_makeRecord_51 (by decide) (fun c_51 => absurd c_51 (by omega)) (fun c_51 => ?_)
          refine lv_aload_n hC.1 hC.2.1 dX3_makeRecord_54 rfl (lv_at hl 1 rfl) ?_
          refine m_geta hC hE hG 11 (by decide) (fun _ => rfl) q767 rfl dX3_makeRecord_55 ?_
          refine lv_iconst (v := 4) hC.1 hC.2.1 dX3_makeRecord_58 (by decide) ?_
          refine lv_iload_n hC.1 hC.2.1 dX3_makeRecord_59 rfl (lv_at hl 2 rfl) ?_
          refine n_mul (a := 4) (b := n) (d := 4 * n) hC (by first | rfl | omega) dX3_makeRecord_60 ?_
          refine lv_iload_n hC.1 hC.2.1 dX3_makeRecord_61 rfl (lv_at hl 0 rfl) ?_
          refine n_add (a := 4 * n) (b := i49) (d := 4 * n + i49) hC (by first | rfl | omega) dX3_makeRecord_62 ?_
          refine m_ild hC hE hG 11 (by decide) rfl (N := 320) rfl (by decide) (j := 4 * n + i49) (v := (mMF n (i49) (mMK n 3 (sU (sU σ 18 n 1) 23 n 0))).2 11 (4 * n + i49)) (by omega) (rfl) dX3_makeRecord_63 ?_
          refine lv_istore_n (lv' := [(3, .int ((mMF n (i49) (mMK n 3 (sU (sU σ 18 n 1) 23 n 0))).2 11 (4 * n + i49))), (2, .int (nI (i49))), (0, .ref (h 25)), (1, .int (nI (n)))]) hC.1 hC.2.1 dX3_makeRecord_64 rfl hl (by decide) rfl (fun ls hl => ?_)
          refine lv_aload_n hC.1 hC.2.1 dX3_makeRecord_65 rfl (lv_at hl 2 rfl) ?_
          refine m_geta hC hE hG 20 (by decide) (fun _ => rfl) q776 rfl dX3_makeRecord_66 ?_
          refine lv_iconst (v := 4) hC.1 hC.2.1 dX3_makeRecord_69 (by decide) ?_
          refine lv_iload_n hC.1 hC.2.1 dX3_makeRecord_70 rfl (lv_at hl 3 rfl) ?_
          refine n_mul (a := 4) (b := n) (d := 4 * n) hC (by first | rfl | omega) dX3_makeRecord_71 ?_
          refine lv_iload_n hC.1 hC.2.1 dX3_makeRecord_72 rfl (lv_at hl 1 rfl) ?_
          refine n_add (a := 4 * n) (b := i49) (d := 4 * n + i49) hC (by first | rfl | omega) dX3_makeRecord_73 ?_
          refine lv_iload_n hC.1 hC.2.1 dX3_makeRecord_74 rfl (lv_at hl 0 rfl) ?_
          refine m_ist hC hE hG 20 (by decide) rfl (N := 320) rfl (by decide) (j := 4 * n + i49) (by omega) dX3_makeRecord_75 (fun H locs hG => ?_)
          refine lv_aload_n hC.1 hC.2.1 dX3_makeRecord_76 rfl (lv_at hl 2 rfl) ?_
          refine m_geta hC hE hG 21 (by decide) (fun _ => rfl) q777 rfl dX3_makeRecord_77 ?_
          refine lv_iconst (v := 4) hC.1 hC.2.1 dX3_makeRecord_80 (by decide) ?_
          refine lv_iload_n hC.1 hC.2.1 dX3_makeRecord_81 rfl (lv_at hl 3 rfl) ?_
          refine n_mul (a := 4) (b := n) (d := 4 * n) hC (by first | rfl | omega) dX3_makeRecord_82 ?_
          refine lv_iload_n hC.1 hC.2.1 dX3_makeRecord_83 rfl (lv_at hl 1 rfl) ?_
          refine n_add (a := 4 * n) (b := i49) (d := 4 * n + i49) hC (by first | rfl | omega) dX3_makeRecord_84 ?_
          refine lv_iload_n hC.1 hC.2.1 dX3_makeRecord_85 rfl (lv_at hl 0 rfl) ?_
          refine lv_iconst (v := -1) hC.1 hC.2.1 dX3_makeRecord_86 (by decide) ?_
          refine lv_icmp_ne (tgt := 94) hC.1 hC.2.1 dX3_makeRecord_87 (by decide) (fun c_87 => ?_) (fun c_87 => ?_)
          · skip
            refine lv_aload_n hC.1 hC.2.1 dX3_makeRecord_94 rfl (lv_at hl 2 rfl) ?_
            refine m_geta hC hE hG 9 (by decide) (fun _ => rfl) q765 rfl dX3_makeRecord_95 ?_
            refine lv_iload_n hC.1 hC.2.1 dX3_makeRecord_98 rfl (lv_at hl 3 rfl) ?_
            refine m_ild hC hE hG 9 (by decide) rfl (N := 80) rfl (by decide) (j := n) (v := (mMF n (i49) (mMK n 3 (sU (sU σ 18 n 1) 23 n 0))).2 9 n) (by omega) (rfl) dX3_makeRecord_99 ?_
            refine m_ist hC hE hG 21 (by decide) rfl (N := 320) rfl (by decide) (j := 4 * n + i49) (by omega) dX3_makeRecord_100 (fun H locs hG => ?_)
            refine lv_aload_n hC.1 hC.2.1 dX3_makeRecord_101 rfl (lv_at hl 2 rfl) ?_
            refine m_geta hC hE hG 22 (by decide) (fun _ => rfl) q778 rfl dX3_makeRecord_102 ?_
            refine lv_iconst (v := 4) hC.1 hC.2.1 dX3_makeRecord_105 (by decide) ?_
            refine lv_iload_n hC.1 hC.2.1 dX3_makeRecord_106 rfl (lv_at hl 3 rfl) ?_
            refine n_mul (a := 4) (b := n) (d := 4 * n) hC (by first | rfl | omega) dX3_makeRecord_107 ?_
            refine lv_iload_n hC.1 hC.2.1 dX3_makeRecord_108 rfl (lv_at hl 1 rfl) ?_
            refine n_add (a := 4 * n) (b := i49) (d := 4 * n + i49) hC (by first | rfl | omega) dX3_makeRecord_109 ?_
            refine lv_iconst (v := 0) hC.1 hC.2.1 dX3_makeRecord_110 (by decide) ?_
            refine m_zst hC hE hG 22 (by decide) rfl (N := 320) rfl (by decide) (j := 4 * n + i49) (by omega) (rfl) dX3_makeRecord_111 (fun H locs hG => ?_)
            refine lv_iinc (v := nI (i49 + 1)) (lv' := [(2, .int (nI (i49 + 1))), (3, .int ((mMF n (i49) (mMK n 3 (sU (sU σ 18 n 1) 23 n 0))).2 11 (4 * n + i49))), (0, .ref (h 25)), (1, .int (nI (n)))]) hC.1 hC.2.1 dX3_makeRecord_112 hl (k := 1) rfl (n_inc _) (by decide) rfl (fun ls hl => ?_)
            refine lv_goto (tgt := 49) hC.1 hC.2.1 dX3_makeRecord_115 (by decide) ?_
            have hσ : sU (sU (sU (mMF n (i49) (mMK n 3 (sU (sU σ 18 n 1) 23 n 0))) 20 (4 * n + i49) ((mMF n (i49) (mMK n 3 (sU (sU σ 18 n 1) 23 n 0))).2 11 (4 * n + i49))) 21 (4 * n + i49) ((mMF n (i49) (mMK n 3 (sU (sU σ 18 n 1) 23 n 0))).2 9 n)) 22 (4 * n + i49) ((0)) = mMF n (i49 + 1) (mMK n 3 (sU (sU σ 18 n 1) 23 n 0)) := by
              simp only [mMF, mMFs, if_neg c_87, if_true, if_false]
            exact ih49 (i49 + 1) (by omega) _ _ (hG.eq (by rw [hσ])) ls (lv_sub hl [0, 2, 3] rfl)
          · skip
            refine lv_iconst (v := -1) hC.1 hC.2.1 dX3_makeRecord_90 (by decide) ?_
            refine lv_goto (tgt := 100) hC.1 hC.2.1 dX3_makeRecord_91 (by decide) ?_
            refine m_ist hC hE hG 21 (by decide) rfl (N := 320) rfl (by decide) (j := 4 * n + i49) (by omega) dX3_makeRecord_100 (fun H locs hG => ?_)
            refine lv_aload_n hC.1 hC.2.1 dX3_makeRecord_101 rfl (lv_at hl 2 rfl) ?_
            refine m_geta hC hE hG 22 (by decide) (fun _ => rfl) q778 rfl dX3_makeRecord_102 ?_
            refine lv_iconst (v := 4) hC.1 hC.2.1 dX3_makeRecord_105 (by decide) ?_
            refine lv_iload_n hC.1 hC.2.1 dX3_makeRecord_106 rfl (lv_at hl 3 rfl) ?_
            refine n_mul (a := 4) (b := n) (d := 4 * n) hC (by first | rfl | omega) dX3_makeRecord_107 ?_
            refine lv_iload_n hC.1 hC.2.1 dX3_makeRecord_108 rfl (lv_at hl 1 rfl) ?_
            refine n_add (a := 4 * n) (b := i49) (d := 4 * n + i49) hC (by first | rfl | omega) dX3_makeRecord_109 ?_
            refine lv_iconst (v := 0) hC.1 hC.2.1 dX3_makeRecord_110 (by decide) ?_
            refine m_zst hC hE hG 22 (by decide) rfl (N := 320) rfl (by decide) (j := 4 * n + i49) (by omega) (rfl) dX3_makeRecord_111 (fun H locs hG => ?_)
            refine lv_iinc (v := nI (i49 + 1)) (lv' := [(2, .int (nI (i49 + 1))), (3, .int ((mMF n (i49) (mMK n 3 (sU (sU σ 18 n 1) 23 n 0))).2 11 (4 * n + i49))), (0, .ref (h 25)), (1, .int (nI (n)))]) hC.1 hC.2.1 dX3_makeRecord_112 hl (k := 1) rfl (n_inc _) (by decide) rfl (fun ls hl => ?_)
            refine lv_goto (tgt := 49) hC.1 hC.2.1 dX3_makeRecord_115 (by decide) ?_
            have hσ : sU (sU (sU (mMF n (i49) (mMK n 3 (sU (sU σ 18 n 1) 23 n 0))) 20 (4 * n + i49) ((mMF n (i49) (mMK n 3 (sU (sU σ 18 n 1) 23 n 0))).2 11 (4 * n + i49))) 21 (4 * n + i49) ((-1))) 22 (4 * n + i49) ((0)) = mMF n (i49 + 1) (mMK n 3 (sU (sU σ 18 n 1) 23 n 0)) := by
              simp only [mMF, mMFs, if_pos c_87, if_true, if_false]
            exact ih49 (i49 + 1) (by omega) _ _ (hG.eq (by rw [hσ])) ls (lv_sub hl [0, 2, 3] rfl)
      exact lp49 4 0 (by omega) _ _ hG ls (lv_sub hl [0, 1, 2] rfl)
    | succ nn ih16 =>
      intro i16 hi16 H locs hG ls hl
      have hlt16 : i16 < 3 := by omega
      refine lv_iload_n hC.1 hC.2.1 dX3_makeRecord_16 rfl (lv_at hl 0 rfl) ?_
      refine lv_iconst (v := 3) hC.1 hC.2.1 dX3_makeRecord_17 (by decide) ?_
      refine n_ge (a := i16) (b := 3) hC (by omega) (by omega) (tgt := 47) dX3_makeRecord_18 (by decide) (fun c_18 => absurd c_18 (by omega)) (fun c_18 => ?_)
      refine lv_aload_n hC.1 hC.2.1 dX3_makeRecord_21 rfl (lv_at hl 1 rfl) ?_
      refine m_geta hC hE hG 19 (by decide) (fun _ => rfl) q775 rfl dX3_makeRecord_22 ?_
      refine lv_iconst (v := 3) hC.1 hC.2.1 dX3_makeRecord_25 (by decide) ?_
      refine lv_iload_n hC.1 hC.2.1 dX3_makeRecord_26 rfl (lv_at hl 2 rfl) ?_
      refine n_mul (a := 3) (b := n) (d := 3 * n) hC (by first | rfl | omega) dX3_makeRecord_27 ?_
      refine lv_iload_n hC.1 hC.2.1 dX3_makeRecord_28 rfl (lv_at hl 0 rfl) ?_
      refine n_add (a := 3 * n) (b := i16) (d := 3 * n + i16) hC (by first | rfl | omega) dX3_makeRecord_29 ?_
      refine lv_aload_n hC.1 hC.2.1 dX3_makeRecord_30 rfl (lv_at hl 1 rfl) ?_
      refine m_geta hC hE hG 10 (by decide) (fun _ => rfl) q766 rfl dX3_makeRecord_31 ?_
      refine lv_iconst (v := 3) hC.1 hC.2.1 dX3_makeRecord_34 (by decide) ?_
      refine lv_iload_n hC.1 hC.2.1 dX3_makeRecord_35 rfl (lv_at hl 2 rfl) ?_
      refine n_mul (a := 3) (b := n) (d := 3 * n) hC (by first | rfl | omega) dX3_makeRecord_36 ?_
      refine lv_iload_n hC.1 hC.2.1 dX3_makeRecord_37 rfl (lv_at hl 0 rfl) ?_
      refine n_add (a := 3 * n) (b := i16) (d := 3 * n + i16) hC (by first | rfl | omega) dX3_makeRecord_38 ?_
      refine m_ild hC hE hG 10 (by decide) rfl (N := 240) rfl (by decide) (j := 3 * n + i16) (v := (mMK n (i16) (sU (sU σ 18 n 1) 23 n 0)).2 10 (3 * n + i16)) (by omega) (rfl) dX3_makeRecord_39 ?_
      refine m_ist hC hE hG 19 (by decide) rfl (N := 240) rfl (by decide) (j := 3 * n + i16) (by omega) dX3_makeRecord_40 (fun H locs hG => ?_)
      refine lv_iinc (v := nI (i16 + 1)) (lv' := [(2, .int (nI (i16 + 1))), (0, .ref (h 25)), (1, .int (nI (n)))]) hC.1 hC.2.1 dX3_makeRecord_41 hl (k := 0) rfl (n_inc _) (by decide) rfl (fun ls hl => ?_)
      refine lv_goto (tgt := 16) hC.1 hC.2.1 dX3_makeRecord_44 (by decide) ?_
      have hσ : sU (mMK n (i16) (sU (sU σ 18 n 1) 23 n 0)) 19 (3 * n + i16) ((mMK n (i16) (sU (sU σ 18 n 1) 23 n 0)).2 10 (3 * n + i16)) = mMK n (i16 + 1) (sU (sU σ 18 n 1) 23 n 0) := by
        simp only [mMK, if_true, if_false]
      exact ih16 (i16 + 1) (by omega) _ _ (hG.eq (by rw [hσ])) ls (lv_sub hl [0, 1, 2] rfl)
  exact lp16 3 0 (by omega) _ _ hG ls (lv_sub hl [0, 1, 2] rfl)
set_option maxHeartbeats 4000000 in
theorem mt_layOver (l : Launch) (K : GK) (A : Nat → Prop) (G0 : GM) (h : Nat → Nat) (σ : MS) (n r : Nat) (hn : n < 80) (hr0 : r < 80) (hS : wS σ) (hL : wL σ) : Met l yX3_layOver (ws_ yX3_layOver cX3_layOver 7 none) ({ frames := 0, cells := 0, slots := 0, locals := 0 }) (va_Pc ([.ref (h 25), .int (nI (n)), .int (nI (r))]) (gW K A (mput K.2.1 h (σ) G0))) (va_Qv (fun u9 : MS => u9 = mLay σ n r) (fun u t => gB K A (mput K.2.1 h u G0) t) A) 0 0 (A) := by
  refine g_ofW (cc := cX3_layOver) (by decide) (own := RX3) rfl (Nat.le_of_ble_eq_true rfl) ?_
  intro p e s m below meth c hC hr hlocks hnm hE hG ls hl
  have hl : lv_has ls 7 [(0, .ref (h 25)), (1, .int (nI (n))), (2, .int (nI (r)))] := hl
  refine lv_iconst (v := 0) hC.1 hC.2.1 dX3_layOver_0 (by decide) ?_
  refine lv_istore_n (lv' := [(3, .int ((0))), (0, .ref (h 25)), (1, .int (nI (n))), (2, .int (nI (r)))]) hC.1 hC.2.1 dX3_layOver_1 rfl hl (by decide) rfl (fun ls hl => ?_)
  have lp2 : ∀ (nn i2 : Nat), i2 + nn = 3 → ∀ (H : Heap) (locs : List Loc), gG K A s.heap (mput K.2.1 h (mLK n r (i2) (σ)) G0) H locs → ∀ ls : Array Slot, lv_has ls 7 [(3, .int (nI (i2))), (0, .ref (h 25)), (1, .int (nI (n))), (2, .int (nI (r)))] → W p l e ({ frames := 0, cells := 0, slots := 0, locals := 0 }) s m ([.ref (h 25), .int (nI (n)), .int (nI (r))] : List Value).toArray below meth c H locs 0 0 (MQ below (va_Qv (fun u9 : MS => u9 = mLay σ n r) (fun u t => gB K A (mput K.2.1 h u G0) t) A) ([.ref (h 25), .int (nI (n)), .int (nI (r))] : List Value).toArray s 0 0 (A)) (F0 m 2 ls []) := by
    intro nn
    induction nn with
    | zero =>
      intro i2 hi2 H locs hG ls hl
      obtain rfl : 3 = i2 := by omega
      refine lv_iload_n hC.1 hC.2.1 dX3_layOver_2 rfl (lv_at hl 0 rfl) ?_
      refine lv_iconst (v := 3) hC.1 hC.2.1 dX3_layOver_3 (by decide) ?_
      refine n_ge (a := 3) (b := 3) hC (by omega) (by omega) (tgt := 58) dX3_layOver_4 (by decide) (fun c_4 => ?_) (fun c_4 => absurd c_4 (by omega))
      refine lv_iconst (v := 0) hC.1 hC.2.1 dX3_layOver_58 (by decide) ?_
      refine lv_istore_n (lv' := [(3, .int ((0))), (0, .ref (h 25)), (1, .int (nI (n))), (2, .int (nI (r)))]) hC.1 hC.2.1 dX3_layOver_59 rfl hl (by decide) rfl (fun ls hl => ?_)
      have hS3 : ∀ k, wS (mLF n r k (mLK n r 3 σ)) := fun k => wS_LF n r (wS_LK n r hS 3) ((kp_LK n r σ 3).L hL) k
      have hL3 : ∀ k, wL (mLF n r k (mLK n r 3 σ)) := fun k => ((kp_LK n r σ 3).tr (kp_LF n r _ k)).L hL
      have lp60 : ∀ (nn i60 : Nat), i60 + nn = 4 → ∀ (H : Heap) (locs : List Loc), gG K A s.heap (mput K.2.1 h (mLF n r (i60) (mLK n r 3 σ)) G0) H locs → ∀ ls : Array Slot, lv_has ls 7 [(3, .int (nI (i60))), (0, .ref (h 25)), (1, .int (nI (n))), (2, .int (nI (r)))] → W p l e ({ frames := 0, cells := 0, slots := 0, locals := 0 }) s m ([.ref (h 25), .int (nI (n)), .int (nI (r))] : List Value).toArray below meth c H locs 0 0 (MQ below (va_Qv (fun u9 : MS => u9 = mLay σ n r) (fun u t => gB K A (mput K.2.1 h u G0) t) A) ([.ref (h 25), .int (nI (n)), .int (nI (r))] : List Value).toArray s 0 0 (A)) (F0 m 60 ls []) := by
        intro nn
        induction nn with
        | zero =>
          intro i60 hi60 H locs hG ls hl
          obtain rfl : 4 = i60 := by omega
          have hS3 : ∀ k, wS (mLF n r k (mLK n r 3 σ)) := fun k => wS_LF n r (wS_LK n r hS 3) ((kp_LK n r σ 3).L hL) k
          have hL3 : ∀ k, wL (mLF n r k (mLK n r 3 σ)) := fun k => ((kp_LK n r σ 3).tr (kp_LF n r _ k)).L hL
          refine lv_iload_n hC.1 hC.2.1 dX3_layOver_60 rfl (lv_at hl 0 rfl) ?_
          refine lv_iconst (v := 4) hC.1 hC.2.1 dX3_layOver_61 (by decide) ?_
          refine n_ge (a := 4) (b := 4) hC (by omega) (by omega) (tgt := 208) dX3_layOver_62 (by decide) (fun c_62 => ?_) (fun c_62 => absurd c_62 (by omega))
          exact g_vret hC hG hr (mLF n r (4) (mLK n r 3 σ)) rfl (by rfl) hlocks dX3_layOver_208
        | succ nn ih60 =>
          intro i60 hi60 H locs hG ls hl
          have hlt60 : i60 < 4 := by omega
          have hS3 : ∀ k, wS (mLF n r k (mLK n r 3 σ)) := fun k => wS_LF n r (wS_LK n r hS 3) ((kp_LK n r σ 3).L hL) k
          have hL3 : ∀ k, wL (mLF n r k (mLK n r 3 σ)) := fun k => ((kp_LK n r σ 3).tr (kp_LF n r _ k)).L hL
          refine lv_iload_n hC.1 hC.2.1 dX3_layOver_60 rfl (lv_at hl 0 rfl) ?_
          refine lv_iconst (v := 4) hC.1 hC.2.1 dX3_layOver_61 (by decide) ?_
          refine n_ge (a := i60) (b := 4) hC (by omega) (by omega) (tgt := 208) dX3_layOver_62 (by decide) (fun c_62 => absurd c_62 (by omega)) (fun c_62 => ?_)
          refine lv_iconst (v := 4) hC.1 hC.2.1 dX3_layOver_65 (by decide) ?_
          refine lv_iload_n hC.1 hC.2.1 dX3_layOver_66 rfl (lv_at hl 3 rfl) ?_
          refine n_mul (a := 4) (b := r) (d := 4 * r) hC (by first | rfl | omega) dX3_layOver_67 ?_
          refine lv_iload_n hC.1 hC.2.1 dX3_layOver_68 rfl (lv_at hl 0 rfl) ?_
          refine n_add (a := 4 * r) (b := i60) (d := 4 * r + i60) hC (by first | rfl | omega) dX3_layOver_69 ?_
          refine lv_istore (lv' := [(4, .int (nI (4 * r + i60))), (3, .int (nI (i60))), (0, .ref (h 25)), (1, .int (nI (n))), (2, .int (nI (r)))]) hC.1 hC.2.1 dX3_layOver_70 hl (by decide) rfl (fun ls hl => ?_)
          refine lv_aload_n hC.1 hC.2.1 dX3_layOver_72 rfl (lv_at hl 2 rfl) ?_
          refine m_geta hC hE hG 11 (by decide) (fun _ => rfl) q767 rfl dX3_layOver_73 ?_
          refine lv_iconst (v := 4) hC.1 hC.2.1 dX3_layOver_76 (by decide) ?_
          refine lv_iload_n hC.1 hC.2.1 dX3_layOver_77 rfl (lv_at hl 3 rfl) ?_
          refine n_mul (a := 4) (b := n) (d := 4 * n) hC (by first | rfl | omega) dX3_layOver_78 ?_
          refine lv_iload_n hC.1 hC.2.1 dX3_layOver_79 rfl (lv_at hl 1 rfl) ?_
          refine n_add (a := 4 * n) (b := i60) (d := 4 * n + i60) hC (by first | rfl | omega) dX3_layOver_80 ?_
          refine m_ild hC hE hG 11 (by decide) rfl (N := 320) rfl (by decide) (j := 4 * n + i60) (v := (mLF n r (i60) (mLK n r 3 σ)).2 11 (4 * n + i60)) (by omega) (rfl) dX3_layOver_81 ?_
          refine lv_istore (lv' := [(5, .int ((mLF n r (i60) (mLK n r 3 σ)).2 11 (4 * n + i60))), (4, .int (nI (4 * r + i60))), (3, .int (nI (i60))), (0, .ref (h 25)), (1, .int (nI (n))), (2, .int (nI (r)))]) hC.1 hC.2.1 dX3_layOver_82 hl (by decide) rfl (fun ls hl => ?_)
          refine lv_aload_n hC.1 hC.2.1 dX3_layOver_84 rfl (lv_at hl 3 rfl) ?_
          refine m_geta hC hE hG 1 (by decide) (fun _ => rfl) q757 rfl dX3_layOver_85 ?_
          refine lv_iload_n hC.1 hC.2.1 dX3_layOver_88 rfl (lv_at hl 2 rfl) ?_
          refine m_ild hC hE hG 1 (by decide) rfl (N := 4) rfl (by decide) (j := i60) (v := (mLF n r (i60) (mLK n r 3 σ)).2 1 i60) (by omega) (rfl) dX3_layOver_89 ?_
          refine lv_iconst (v := 2) hC.1 hC.2.1 dX3_layOver_90 (by decide) ?_
          refine lv_icmp_eq (tgt := 141) hC.1 hC.2.1 dX3_layOver_91 (by decide) (fun c_91 => ?_) (fun c_91 => ?_)
          · skip
            refine lv_iconst (v := 1) hC.1 hC.2.1 dX3_layOver_141 (by decide) ?_
            refine lv_goto (tgt := 146) hC.1 hC.2.1 dX3_layOver_142 (by decide) ?_
            refine lv_istore (lv' := [(6, .int ((1))), (5, .int ((mLF n r (i60) (mLK n r 3 σ)).2 11 (4 * n + i60))), (4, .int (nI (4 * r + i60))), (3, .int (nI (i60))), (0, .ref (h 25)), (1, .int (nI (n))), (2, .int (nI (r)))]) hC.1 hC.2.1 dX3_layOver_146 hl (by decide) rfl (fun ls hl => ?_)
            refine lv_iload hC.1 hC.2.1 dX3_layOver_148 (lv_at hl 1 rfl) ?_
            refine lv_iconst (v := -1) hC.1 hC.2.1 dX3_layOver_150 (by decide) ?_
            refine lv_icmp_eq (tgt := 202) hC.1 hC.2.1 dX3_layOver_151 (by decide) (fun c_151 => ?_) (fun c_151 => ?_)
            · skip
              refine lv_iinc (v := nI (i60 + 1)) (lv' := [(3, .int (nI (i60 + 1))), (6, .int ((1))), (5, .int ((mLF n r (i60) (mLK n r 3 σ)).2 11 (4 * n + i60))), (4, .int (nI (4 * r + i60))), (0, .ref (h 25)), (1, .int (nI (n))), (2, .int (nI (r)))]) hC.1 hC.2.1 dX3_layOver_202 hl (k := 3) rfl (n_inc _) (by decide) rfl (fun ls hl => ?_)
              refine lv_goto (tgt := 60) hC.1 hC.2.1 dX3_layOver_205 (by decide) ?_
              have hS3 : ∀ k, wS (mLF n r k (mLK n r 3 σ)) := fun k => wS_LF n r (wS_LK n r hS 3) ((kp_LK n r σ 3).L hL) k
              have hL3 : ∀ k, wL (mLF n r k (mLK n r 3 σ)) := fun k => ((kp_LK n r σ 3).tr (kp_LF n r _ k)).L hL
              have hσ : mLF n r (i60) (mLK n r 3 σ) = mLF n r (i60 + 1) (mLK n r 3 σ) := by
                simp only [mLF, mLFs, mLFu, mComes, if_pos c_91, if_pos c_151, if_pos (show (0 : Int32) = 0 from rfl), if_neg (show ¬ (1 : Int32) = 0 by decide), if_true, if_false]
              exact ih60 (i60 + 1) (by omega) _ _ (hG.eq (by rw [hσ])) ls (lv_sub hl [0, 4, 5, 6] rfl)
            · skip
              refine lv_aload_n hC.1 hC.2.1 dX3_layOver_154 rfl (lv_at hl 4 rfl) ?_
              refine m_geta hC hE hG 22 (by decide) (fun _ => rfl) q778 rfl dX3_layOver_155 ?_
              refine lv_iload hC.1 hC.2.1 dX3_layOver_158 (lv_at hl 2 rfl) ?_
              refine m_zld hC hE hG 22 (by decide) rfl (N := 320) rfl (by decide) (j := 4 * r + i60) (v := (mLF n r (i60) (mLK n r 3 σ)).2 22 (4 * r + i60)) (by omega) (rfl) dX3_layOver_160 ?_
              refine lv_if_ne (tgt := 202) hC.1 hC.2.1 dX3_layOver_161 (by decide) (fun c_161 => ?_) (fun c_161 => ?_)
              · skip
                refine lv_iinc (v := nI (i60 + 1)) (lv' := [(3, .int (nI (i60 + 1))), (6, .int ((1))), (5, .int ((mLF n r (i60) (mLK n r 3 σ)).2 11 (4 * n + i60))), (4, .int (nI (4 * r + i60))), (0, .ref (h 25)), (1, .int (nI (n))), (2, .int (nI (r)))]) hC.1 hC.2.1 dX3_layOver_202 hl (k := 3) rfl (n_inc _) (by decide) rfl (fun ls hl => ?_)
                refine lv_goto (tgt := 60) hC.1 hC.2.1 dX3_layOver_205 (by decide) ?_
                have hS3 : ∀ k, wS (mLF n r k (mLK n r 3 σ)) := fun k => wS_LF n r (wS_LK n r hS 3) ((kp_LK n r σ 3).L hL) k
                have hL3 : ∀ k, wL (mLF n r k (mLK n r 3 σ)) := fun k => ((kp_LK n r σ 3).tr (kp_LF n r _ k)).L hL
                have hσ : mLF n r (i60) (mLK n r 3 σ) = mLF n r (i60 + 1) (mLK n r 3 σ) := by
                  simp only [mLF, mLFs, mLFu, mComes, if_pos c_91, if_neg c_151, if_neg c_161, if_pos (show (0 : Int32) = 0 from rfl), if_neg (show ¬ (1 : Int32) = 0 by decide), if_true, if_false]
                exact ih60 (i60 + 1) (by omega) _ _ (hG.eq (by rw [hσ])) ls (lv_sub hl [0, 4, 5, 6] rfl)
              · skip
                refine lv_aload_n hC.1 hC.2.1 dX3_layOver_164 rfl (lv_at hl 4 rfl) ?_
                refine m_geta hC hE hG 20 (by decide) (fun _ => rfl) q776 rfl dX3_layOver_165 ?_
                refine lv_iload hC.1 hC.2.1 dX3_layOver_168 (lv_at hl 2 rfl) ?_
                refine m_ild hC hE hG 20 (by decide) rfl (N := 320) rfl (by decide) (j := 4 * r + i60) (v := (mLF n r (i60) (mLK n r 3 σ)).2 20 (4 * r + i60)) (by omega) (rfl) dX3_layOver_170 ?_
                refine lv_iconst (v := -1) hC.1 hC.2.1 dX3_layOver_171 (by decide) ?_
                refine lv_icmp_eq (tgt := 180) hC.1 hC.2.1 dX3_layOver_172 (by decide) (fun c_172 => ?_) (fun c_172 => ?_)
                · skip
                  refine lv_aload_n hC.1 hC.2.1 dX3_layOver_180 rfl (lv_at hl 4 rfl) ?_
                  refine m_geta hC hE hG 20 (by decide) (fun _ => rfl) q776 rfl dX3_layOver_181 ?_
                  refine lv_iload hC.1 hC.2.1 dX3_layOver_184 (lv_at hl 2 rfl) ?_
                  refine lv_iload hC.1 hC.2.1 dX3_layOver_186 (lv_at hl 1 rfl) ?_
                  refine m_ist hC hE hG 20 (by decide) rfl (N := 320) rfl (by decide) (j := 4 * r + i60) (by omega) dX3_layOver_188 (fun H locs hG => ?_)
                  refine lv_aload_n hC.1 hC.2.1 dX3_layOver_189 rfl (lv_at hl 4 rfl) ?_
                  refine m_geta hC hE hG 21 (by decide) (fun _ => rfl) q777 rfl dX3_layOver_190 ?_
                  refine lv_iload hC.1 hC.2.1 dX3_layOver_193 (lv_at hl 2 rfl) ?_
                  refine lv_aload_n hC.1 hC.2.1 dX3_layOver_195 rfl (lv_at hl 4 rfl) ?_
                  refine m_geta hC hE hG 9 (by decide) (fun _ => rfl) q765 rfl dX3_layOver_196 ?_
                  refine lv_iload_n hC.1 hC.2.1 dX3_layOver_199 rfl (lv_at hl 5 rfl) ?_
                  refine m_ild hC hE hG 9 (by decide) rfl (N := 80) rfl (by decide) (j := n) (v := (mLF n r (i60) (mLK n r 3 σ)).2 9 n) (by omega) (rfl) dX3_layOver_200 ?_
                  refine m_ist hC hE hG 21 (by decide) rfl (N := 320) rfl (by decide) (j := 4 * r + i60) (by omega) dX3_layOver_201 (fun H locs hG => ?_)
                  refine lv_iinc (v := nI (i60 + 1)) (lv' := [(3, .int (nI (i60 + 1))), (6, .int ((1))), (5, .int ((mLF n r (i60) (mLK n r 3 σ)).2 11 (4 * n + i60))), (4, .int (nI (4 * r + i60))), (0, .ref (h 25)), (1, .int (nI (n))), (2, .int (nI (r)))]) hC.1 hC.2.1 dX3_layOver_202 hl (k := 3) rfl (n_inc _) (by decide) rfl (fun ls hl => ?_)
                  refine lv_goto (tgt := 60) hC.1 hC.2.1 dX3_layOver_205 (by decide) ?_
                  have hS3 : ∀ k, wS (mLF n r k (mLK n r 3 σ)) := fun k => wS_LF n r (wS_LK n r hS 3) ((kp_LK n r σ 3).L hL) k
                  have hL3 : ∀ k, wL (mLF n r k (mLK n r 3 σ)) := fun k => ((kp_LK n r σ 3).tr (kp_LF n r _ k)).L hL
                  have hσ : sU (sU (mLF n r (i60) (mLK n r 3 σ)) 20 (4 * r + i60) ((mLF n r (i60) (mLK n r 3 σ)).2 11 (4 * n + i60))) 21 (4 * r + i60) ((mLF n r (i60) (mLK n r 3 σ)).2 9 n) = mLF n r (i60 + 1) (mLK n r 3 σ) := by
                    simp only [mLF, mLFs, mLFu, mComes, if_pos c_91, if_neg c_151, if_pos c_161, if_pos c_172, if_pos (show (0 : Int32) = 0 from rfl), if_neg (show ¬ (1 : Int32) = 0 by decide), if_true, if_false]
                  exact ih60 (i60 + 1) (by omega) _ _ (hG.eq (by rw [hσ])) ls (lv_sub hl [0, 4, 5, 6] rfl)
                · skip
                  refine lv_iload hC.1 hC.2.1 dX3_layOver_175 (lv_at hl 0 rfl) ?_
                  refine lv_if_eq (tgt := 202) hC.1 hC.2.1 dX3_layOver_177 (by decide) (fun c_177 => absurd c_177 (by decide)) (fun c_177 => ?_)
                  refine lv_aload_n hC.1 hC.2.1 dX3_layOver_180 rfl (lv_at hl 4 rfl) ?_
                  refine m_geta hC hE hG 20 (by decide) (fun _ => rfl) q776 rfl dX3_layOver_181 ?_
                  refine lv_iload hC.1 hC.2.1 dX3_layOver_184 (lv_at hl 2 rfl) ?_
                  refine lv_iload hC.1 hC.2.1 dX3_layOver_186 (lv_at hl 1 rfl) ?_
                  refine m_ist hC hE hG 20 (by decide) rfl (N := 320) rfl (by decide) (j := 4 * r + i60) (by omega) dX3_layOver_188 (fun H locs hG => ?_)
                  refine lv_aload_n hC.1 hC.2.1 dX3_layOver_189 rfl (lv_at hl 4 rfl) ?_
                  refine m_geta hC hE hG 21 (by decide) (fun _ => rfl) q777 rfl dX3_layOver_190 ?_
                  refine lv_iload hC.1 hC.2.1 dX3_layOver_193 (lv_at hl 2 rfl) ?_
                  refine lv_aload_n hC.1 hC.2.1 dX3_layOver_195 rfl (lv_at hl 4 rfl) ?_
                  refine m_geta hC hE hG 9 (by decide) (fun _ => rfl) q765 rfl dX3_layOver_196 ?_
                  refine lv_iload_n hC.1 hC.2.1 dX3_layOver_199 rfl (lv_at hl 5 rfl) ?_
                  refine m_ild hC hE hG 9 (by decide) rfl (N := 80) rfl (by decide) (j := n) (v := (mLF n r (i60) (mLK n r 3 σ)).2 9 n) (by omega) (rfl) dX3_layOver_200 ?_
                  refine m_ist hC hE hG 21 (by decide) rfl (N := 320) rfl (by decide) (j := 4 * r + i60) (by omega) dX3_layOver_201 (fun H locs hG => ?_)
                  refine lv_iinc (v := nI (i60 + 1)) (lv' := [(3, .int (nI (i60 + 1))), (6, .int ((1))), (5, .int ((mLF n r (i60) (mLK n r 3 σ)).2 11 (4 * n + i60))), (4, .int (nI (4 * r + i60))), (0, .ref (h 25)), (1, .int (nI (n))), (2, .int (nI (r)))]) hC.1 hC.2.1 dX3_layOver_202 hl (k := 3) rfl (n_inc _) (by decide) rfl (fun ls hl => ?_)
                  refine lv_goto (tgt := 60) hC.1 hC.2.1 dX3_layOver_205 (by decide) ?_
                  have hS3 : ∀ k, wS (mLF n r k (mLK n r 3 σ)) := fun k => wS_LF n r (wS_LK n r hS 3) ((kp_LK n r σ 3).L hL) k
                  have hL3 : ∀ k, wL (mLF n r k (mLK n r 3 σ)) := fun k => ((kp_LK n r σ 3).tr (kp_LF n r _ k)).L hL
                  have hσ : sU (sU (mLF n r (i60) (mLK n r 3 σ)) 20 (4 * r + i60) ((mLF n r (i60) (mLK n r 3 σ)).2 11 (4 * n + i60))) 21 (4 * r + i60) ((mLF n r (i60) (mLK n r 3 σ)).2 9 n) = mLF n r (i60 + 1) (mLK n r 3 σ) := by
                    simp only [mLF, mLFs, mLFu, mComes, if_pos c_91, if_neg c_151, if_pos c_161, if_neg c_172, if_pos (show (0 : Int32) = 0 from rfl), if_neg (show ¬ (1 : Int32) = 0 by decide), if_true, if_false]
                  exact ih60 (i60 + 1) (by omega) _ _ (hG.eq (by rw [hσ])) ls (lv_sub hl [0, 4, 5, 6] rfl)
          · skip
            refine lv_aload_n hC.1 hC.2.1 dX3_layOver_94 rfl (lv_at hl 3 rfl) ?_
            refine m_geta hC hE hG 1 (by decide) (fun _ => rfl) q757 rfl dX3_layOver_95 ?_
            refine lv_iload_n hC.1 hC.2.1 dX3_layOver_98 rfl (lv_at hl 2 rfl) ?_
            refine m_ild hC hE hG 1 (by decide) rfl (N := 4) rfl (by decide) (j := i60) (v := (mLF n r (i60) (mLK n r 3 σ)).2 1 i60) (by omega) (rfl) dX3_layOver_99 ?_
            refine lv_iconst (v := 1) hC.1 hC.2.1 dX3_layOver_100 (by decide) ?_
            refine lv_icmp_ne (tgt := 145) hC.1 hC.2.1 dX3_layOver_101 (by decide) (fun c_101 => ?_) (fun c_101 => ?_)
            · skip
              refine lv_iconst (v := 0) hC.1 hC.2.1 dX3_layOver_145 (by decide) ?_
              refine lv_istore (lv' := [(6, .int ((0))), (5, .int ((mLF n r (i60) (mLK n r 3 σ)).2 11 (4 * n + i60))), (4, .int (nI (4 * r + i60))), (3, .int (nI (i60))), (0, .ref (h 25)), (1, .int (nI (n))), (2, .int (nI (r)))]) hC.1 hC.2.1 dX3_layOver_146 hl (by decide) rfl (fun ls hl => ?_)
              refine lv_iload hC.1 hC.2.1 dX3_layOver_148 (lv_at hl 1 rfl) ?_
              refine lv_iconst (v := -1) hC.1 hC.2.1 dX3_layOver_150 (by decide) ?_
              refine lv_icmp_eq (tgt := 202) hC.1 hC.2.1 dX3_layOver_151 (by decide) (fun c_151 => ?_) (fun c_151 => ?_)
              · skip
                refine lv_iinc (v := nI (i60 + 1)) (lv' := [(3, .int (nI (i60 + 1))), (6, .int ((0))), (5, .int ((mLF n r (i60) (mLK n r 3 σ)).2 11 (4 * n + i60))), (4, .int (nI (4 * r + i60))), (0, .ref (h 25)), (1, .int (nI (n))), (2, .int (nI (r)))]) hC.1 hC.2.1 dX3_layOver_202 hl (k := 3) rfl (n_inc _) (by decide) rfl (fun ls hl => ?_)
                refine lv_goto (tgt := 60) hC.1 hC.2.1 dX3_layOver_205 (by decide) ?_
                have hS3 : ∀ k, wS (mLF n r k (mLK n r 3 σ)) := fun k => wS_LF n r (wS_LK n r hS 3) ((kp_LK n r σ 3).L hL) k
                have hL3 : ∀ k, wL (mLF n r k (mLK n r 3 σ)) := fun k => ((kp_LK n r σ 3).tr (kp_LF n r _ k)).L hL
                have hσ : mLF n r (i60) (mLK n r 3 σ) = mLF n r (i60 + 1) (mLK n r 3 σ) := by
                  simp only [mLF, mLFs, mLFu, mComes, if_neg c_91, if_neg c_101, if_pos c_151, if_pos (show (0 : Int32) = 0 from rfl), if_neg (show ¬ (1 : Int32) = 0 by decide), if_true, if_false]
                exact ih60 (i60 + 1) (by omega) _ _ (hG.eq (by rw [hσ])) ls (lv_sub hl [0, 4, 5, 6] rfl)
              · skip
                refine lv_aload_n hC.1 hC.2.1 dX3_layOver_154 rfl (lv_at hl 4 rfl) ?_
                refine m_geta hC hE hG 22 (by decide) (fun _ => rfl) q778 rfl dX3_layOver_155 ?_
                refine lv_iload hC.1 hC.2.1 dX3_layOver_158 (lv_at hl 2 rfl) ?_
                refine m_zld hC hE hG 22 (by decide) rfl (N := 320) rfl (by decide) (j := 4 * r + i60) (v := (mLF n r (i60) (mLK n r 3 σ)).2 22 (4 * r + i60)) (by omega) (rfl) dX3_layOver_160 ?_
                refine lv_if_ne (tgt := 202) hC.1 hC.2.1 dX3_layOver_161 (by decide) (fun c_161 => ?_) (fun c_161 => ?_)
                · skip
                  refine lv_iinc (v := nI (i60 + 1)) (lv' := [(3, .int (nI (i60 + 1))), (6, .int ((0))), (5, .int ((mLF n r (i60) (mLK n r 3 σ)).2 11 (4 * n + i60))), (4, .int (nI (4 * r + i60))), (0, .ref (h 25)), (1, .int (nI (n))), (2, .int (nI (r)))]) hC.1 hC.2.1 dX3_layOver_202 hl (k := 3) rfl (n_inc _) (by decide) rfl (fun ls hl => ?_)
                  refine lv_goto (tgt := 60) hC.1 hC.2.1 dX3_layOver_205 (by decide) ?_
                  have hS3 : ∀ k, wS (mLF n r k (mLK n r 3 σ)) := fun k => wS_LF n r (wS_LK n r hS 3) ((kp_LK n r σ 3).L hL) k
                  have hL3 : ∀ k, wL (mLF n r k (mLK n r 3 σ)) := fun k => ((kp_LK n r σ 3).tr (kp_LF n r _ k)).L hL
                  have hσ : mLF n r (i60) (mLK n r 3 σ) = mLF n r (i60 + 1) (mLK n r 3 σ) := by
                    simp only [mLF, mLFs, mLFu, mComes, if_neg c_91, if_neg c_101, if_neg c_151, if_neg c_161, if_pos (show (0 : Int32) = 0 from rfl), if_neg (show ¬ (1 : Int32) = 0 by decide), if_true, if_false]
                  exact ih60 (i60 + 1) (by omega) _ _ (hG.eq (by rw [hσ])) ls (lv_sub hl [0, 4, 5, 6] rfl)
                · skip
                  refine lv_aload_n hC.1 hC.2.1 dX3_layOver_164 rfl (lv_at hl 4 rfl) ?_
                  refine m_geta hC hE hG 20 (by decide) (fun _ => rfl) q776 rfl dX3_layOver_165 ?_
                  refine lv_iload hC.1 hC.2.1 dX3_layOver_168 (lv_at hl 2 rfl) ?_
                  refine m_ild hC hE hG 20 (by decide) rfl (N := 320) rfl (by decide) (j := 4 * r + i60) (v := (mLF n r (i60) (mLK n r 3 σ)).2 20 (4 * r + i60)) (by omega) (rfl) dX3_layOver_170 ?_
                  refine lv_iconst (v := -1) hC.1 hC.2.1 dX3_layOver_171 (by decide) ?_
                  refine lv_icmp_eq (tgt := 180) hC.1 hC.2.1 dX3_layOver_172 (by decide) (fun c_172 => ?_) (fun c_172 => ?_)
                  · skip
                    refine lv_aload_n hC.1 hC.2.1 dX3_layOver_180 rfl (lv_at hl 4 rfl) ?_
                    refine m_geta hC hE hG 20 (by decide) (fun _ => rfl) q776 rfl dX3_layOver_181 ?_
                    refine lv_iload hC.1 hC.2.1 dX3_layOver_184 (lv_at hl 2 rfl) ?_
                    refine lv_iload hC.1 hC.2.1 dX3_layOver_186 (lv_at hl 1 rfl) ?_
                    refine m_ist hC hE hG 20 (by decide) rfl (N := 320) rfl (by decide) (j := 4 * r + i60) (by omega) dX3_layOver_188 (fun H locs hG => ?_)
                    refine lv_aload_n hC.1 hC.2.1 dX3_layOver_189 rfl (lv_at hl 4 rfl) ?_
                    refine m_geta hC hE hG 21 (by decide) (fun _ => rfl) q777 rfl dX3_layOver_190 ?_
                    refine lv_iload hC.1 hC.2.1 dX3_layOver_193 (lv_at hl 2 rfl) ?_
                    refine lv_aload_n hC.1 hC.2.1 dX3_layOver_195 rfl (lv_at hl 4 rfl) ?_
                    refine m_geta hC hE hG 9 (by decide) (fun _ => rfl) q765 rfl dX3_layOver_196 ?_
                    refine lv_iload_n hC.1 hC.2.1 dX3_layOver_199 rfl (lv_at hl 5 rfl) ?_
                    refine m_ild hC hE hG 9 (by decide) rfl (N := 80) rfl (by decide) (j := n) (v := (mLF n r (i60) (mLK n r 3 σ)).2 9 n) (by omega) (rfl) dX3_layOver_200 ?_
                    refine m_ist hC hE hG 21 (by decide) rfl (N := 320) rfl (by decide) (j := 4 * r + i60) (by omega) dX3_layOver_201 (fun H locs hG => ?_)
                    refine lv_iinc (v := nI (i60 + 1)) (lv' := [(3, .int (nI (i60 + 1))), (6, .int ((0))), (5, .int ((mLF n r (i60) (mLK n r 3 σ)).2 11 (4 * n + i60))), (4, .int (nI (4 * r + i60))), (0, .ref (h 25)), (1, .int (nI (n))), (2, .int (nI (r)))]) hC.1 hC.2.1 dX3_layOver_202 hl (k := 3) rfl (n_inc _) (by decide) rfl (fun ls hl => ?_)
                    refine lv_goto (tgt := 60) hC.1 hC.2.1 dX3_layOver_205 (by decide) ?_
                    have hS3 : ∀ k, wS (mLF n r k (mLK n r 3 σ)) := fun k => wS_LF n r (wS_LK n r hS 3) ((kp_LK n r σ 3).L hL) k
                    have hL3 : ∀ k, wL (mLF n r k (mLK n r 3 σ)) := fun k => ((kp_LK n r σ 3).tr (kp_LF n r _ k)).L hL
                    have hσ : sU (sU (mLF n r (i60) (mLK n r 3 σ)) 20 (4 * r + i60) ((mLF n r (i60) (mLK n r 3 σ)).2 11 (4 * n + i60))) 21 (4 * r + i60) ((mLF n r (i60) (mLK n r 3 σ)).2 9 n) = mLF n r (i60 + 1) (mLK n r 3 σ) := by
                      simp only [mLF, mLFs, mLFu, mComes, if_neg c_91, if_neg c_101, if_neg c_151, if_pos c_161, if_pos c_172, if_pos (show (0 : Int32) = 0 from rfl), if_neg (show ¬ (1 : Int32) = 0 by decide), if_true, if_false]
                    exact ih60 (i60 + 1) (by omega) _ _ (hG.eq (by rw [hσ])) ls (lv_sub hl [0, 4, 5, 6] rfl)
                  · skip
                    refine lv_iload hC.1 hC.2.1 dX3_layOver_175 (lv_at hl 0 rfl) ?_
                    refine lv_if_eq (tgt := 202) hC.1 hC.2.1 dX3_layOver_177 (by decide) (fun c_177 => ?_) (fun c_177 => absurd c_177 (by decide))
                    refine lv_iinc (v := nI (i60 + 1)) (lv' := [(3, .int (nI (i60 + 1))), (6, .int ((0))), (5, .int ((mLF n r (i60) (mLK n r 3 σ)).2 11 (4 * n + i60))), (4, .int (nI (4 * r + i60))), (0, .ref (h 25)), (1, .int (nI (n))), (2, .int (nI (r)))]) hC.1 hC.2.1 dX3_layOver_202 hl (k := 3) rfl (n_inc _) (by decide) rfl (fun ls hl => ?_)
                    refine lv_goto (tgt := 60) hC.1 hC.2.1 dX3_layOver_205 (by decide) ?_
                    have hS3 : ∀ k, wS (mLF n r k (mLK n r 3 σ)) := fun k => wS_LF n r (wS_LK n r hS 3) ((kp_LK n r σ 3).L hL) k
                    have hL3 : ∀ k, wL (mLF n r k (mLK n r 3 σ)) := fun k => ((kp_LK n r σ 3).tr (kp_LF n r _ k)).L hL
                    have hσ : mLF n r (i60) (mLK n r 3 σ) = mLF n r (i60 + 1) (mLK n r 3 σ) := by
                      simp only [mLF, mLFs, mLFu, mComes, if_neg c_91, if_neg c_101, if_neg c_151, if_pos c_161, if_neg c_172, if_pos (show (0 : Int32) = 0 from rfl), if_neg (show ¬ (1 : Int32) = 0 by decide), if_true, if_false]
                    exact ih60 (i60 + 1) (by omega) _ _ (hG.eq (by rw [hσ])) ls (lv_sub hl [0, 4, 5, 6] rfl)
            · skip
              refine lv_aload_n hC.1 hC.2.1 dX3_layOver_104 rfl (lv_at hl 3 rfl) ?_
              refine m_geta hC hE hG 21 (by decide) (fun _ => rfl) q777 rfl dX3_layOver_105 ?_
              refine lv_iload hC.1 hC.2.1 dX3_layOver_108 (lv_at hl 1 rfl) ?_
              refine m_ild hC hE hG 21 (by decide) rfl (N := 320) rfl (by decide) (j := 4 * r + i60) (v := (mLF n r (i60) (mLK n r 3 σ)).2 21 (4 * r + i60)) (by omega) (rfl) dX3_layOver_110 ?_
              refine lv_iconst (v := -1) hC.1 hC.2.1 dX3_layOver_111 (by decide) ?_
              refine lv_icmp_eq (tgt := 141) hC.1 hC.2.1 dX3_layOver_112 (by decide) (fun c_112 => ?_) (fun c_112 => ?_)
              · skip
                refine lv_iconst (v := 1) hC.1 hC.2.1 dX3_layOver_141 (by decide) ?_
                refine lv_goto (tgt := 146) hC.1 hC.2.1 dX3_layOver_142 (by decide) ?_
                refine lv_istore (lv' := [(6, .int ((1))), (5, .int ((mLF n r (i60) (mLK n r 3 σ)).2 11 (4 * n + i60))), (4, .int (nI (4 * r + i60))), (3, .int (nI (i60))), (0, .ref (h 25)), (1, .int (nI (n))), (2, .int (nI (r)))]) hC.1 hC.2.1 dX3_layOver_146 hl (by decide) rfl (fun ls hl => ?_)
                refine lv_iload hC.1 hC.2.1 dX3_layOver_148 (lv_at hl 1 rfl) ?_
                refine lv_iconst (v := -1) hC.1 hC.2.1 dX3_layOver_150 (by decide) ?_
                refine lv_icmp_eq (tgt := 202) hC.1 hC.2.1 dX3_layOver_151 (by decide) (fun c_151 => ?_) (fun c_151 => ?_)
                · skip
                  refine lv_iinc (v := nI (i60 + 1)) (lv' := [(3, .int (nI (i60 + 1))), (6, .int ((1))), (5, .int ((mLF n r (i60) (mLK n r 3 σ)).2 11 (4 * n + i60))), (4, .int (nI (4 * r + i60))), (0, .ref (h 25)), (1, .int (nI (n))), (2, .int (nI (r)))]) hC.1 hC.2.1 dX3_layOver_202 hl (k := 3) rfl (n_inc _) (by decide) rfl (fun ls hl => ?_)
                  refine lv_goto (tgt := 60) hC.1 hC.2.1 dX3_layOver_205 (by decide) ?_
                  have hS3 : ∀ k, wS (mLF n r k (mLK n r 3 σ)) := fun k => wS_LF n r (wS_LK n r hS 3) ((kp_LK n r σ 3).L hL) k
                  have hL3 : ∀ k, wL (mLF n r k (mLK n r 3 σ)) := fun k => ((kp_LK n r σ 3).tr (kp_LF n r _ k)).L hL
                  have hσ : mLF n r (i60) (mLK n r 3 σ) = mLF n r (i60 + 1) (mLK n r 3 σ) := by
                    simp only [mLF, mLFs, mLFu, mComes, if_neg c_91, if_pos c_101, if_pos c_112, if_pos c_151, if_pos (show (0 : Int32) = 0 from rfl), if_neg (show ¬ (1 : Int32) = 0 by decide), if_true, if_false]
                  exact ih60 (i60 + 1) (by omega) _ _ (hG.eq (by rw [hσ])) ls (lv_sub hl [0, 4, 5, 6] rfl)
                · skip
                  refine lv_aload_n hC.1 hC.2.1 dX3_layOver_154 rfl (lv_at hl 4 rfl) ?_
                  refine m_geta hC hE hG 22 (by decide) (fun _ => rfl) q778 rfl dX3_layOver_155 ?_
                  refine lv_iload hC.1 hC.2.1 dX3_layOver_158 (lv_at hl 2 rfl) ?_
                  refine m_zld hC hE hG 22 (by decide) rfl (N := 320) rfl (by decide) (j := 4 * r + i60) (v := (mLF n r (i60) (mLK n r 3 σ)).2 22 (4 * r + i60)) (by omega) (rfl) dX3_layOver_160 ?_
                  refine lv_if_ne (tgt := 202) hC.1 hC.2.1 dX3_layOver_161 (by decide) (fun c_161 => ?_) (fun c_161 => ?_)
                  · skip
                    refine lv_iinc (v := nI (i60 + 1)) (lv' := [(3, .int (nI (i60 + 1))), (6, .int ((1))), (5, .int ((mLF n r (i60) (mLK n r 3 σ)).2 11 (4 * n + i60))), (4, .int (nI (4 * r + i60))), (0, .ref (h 25)), (1, .int (nI (n))), (2, .int (nI (r)))]) hC.1 hC.2.1 dX3_layOver_202 hl (k := 3) rfl (n_inc _) (by decide) rfl (fun ls hl => ?_)
                    refine lv_goto (tgt := 60) hC.1 hC.2.1 dX3_layOver_205 (by decide) ?_
                    have hS3 : ∀ k, wS (mLF n r k (mLK n r 3 σ)) := fun k => wS_LF n r (wS_LK n r hS 3) ((kp_LK n r σ 3).L hL) k
                    have hL3 : ∀ k, wL (mLF n r k (mLK n r 3 σ)) := fun k => ((kp_LK n r σ 3).tr (kp_LF n r _ k)).L hL
                    have hσ : mLF n r (i60) (mLK n r 3 σ) = mLF n r (i60 + 1) (mLK n r 3 σ) := by
                      simp only [mLF, mLFs, mLFu, mComes, if_neg c_91, if_pos c_101, if_pos c_112, if_neg c_151, if_neg c_161, if_pos (show (0 : Int32) = 0 from rfl), if_neg (show ¬ (1 : Int32) = 0 by decide), if_true, if_false]
                    exact ih60 (i60 + 1) (by omega) _ _ (hG.eq (by rw [hσ])) ls (lv_sub hl [0, 4, 5, 6] rfl)
                  · skip
                    refine lv_aload_n hC.1 hC.2.1 dX3_layOver_164 rfl (lv_at hl 4 rfl) ?_
                    refine m_geta hC hE hG 20 (by decide) (fun _ => rfl) q776 rfl dX3_layOver_165 ?_
                    refine lv_iload hC.1 hC.2.1 dX3_layOver_168 (lv_at hl 2 rfl) ?_
                    refine m_ild hC hE hG 20 (by decide) rfl (N := 320) rfl (by decide) (j := 4 * r + i60) (v := (mLF n r (i60) (mLK n r 3 σ)).2 20 (4 * r + i60)) (by omega) (rfl) dX3_layOver_170 ?_
                    refine lv_iconst (v := -1) hC.1 hC.2.1 dX3_layOver_171 (by decide) ?_
                    refine lv_icmp_eq (tgt := 180) hC.1 hC.2.1 dX3_layOver_172 (by decide) (fun c_172 => ?_) (fun c_172 => ?_)
                    · skip
                      refine lv_aload_n hC.1 hC.2.1 dX3_layOver_180 rfl (lv_at hl 4 rfl) ?_
                      refine m_geta hC hE hG 20 (by decide) (fun _ => rfl) q776 rfl dX3_layOver_181 ?_
                      refine lv_iload hC.1 hC.2.1 dX3_layOver_184 (lv_at hl 2 rfl) ?_
                      refine lv_iload hC.1 hC.2.1 dX3_layOver_186 (lv_at hl 1 rfl) ?_
                      refine m_ist hC hE hG 20 (by decide) rfl (N := 320) rfl (by decide) (j := 4 * r + i60) (by omega) dX3_layOver_188 (fun H locs hG => ?_)
                      refine lv_aload_n hC.1 hC.2.1 dX3_layOver_189 rfl (lv_at hl 4 rfl) ?_
                      refine m_geta hC hE hG 21 (by decide) (fun _ => rfl) q777 rfl dX3_layOver_190 ?_
                      refine lv_iload hC.1 hC.2.1 dX3_layOver_193 (lv_at hl 2 rfl) ?_
                      refine lv_aload_n hC.1 hC.2.1 dX3_layOver_195 rfl (lv_at hl 4 rfl) ?_
                      refine m_geta hC hE hG 9 (by decide) (fun _ => rfl) q765 rfl dX3_layOver_196 ?_
                      refine lv_iload_n hC.1 hC.2.1 dX3_layOver_199 rfl (lv_at hl 5 rfl) ?_
                      refine m_ild hC hE hG 9 (by decide) rfl (N := 80) rfl (by decide) (j := n) (v := (mLF n r (i60) (mLK n r 3 σ)).2 9 n) (by omega) (rfl) dX3_layOver_200 ?_
                      refine m_ist hC hE hG 21 (by decide) rfl (N := 320) rfl (by decide) (j := 4 * r + i60) (by omega) dX3_layOver_201 (fun H locs hG => ?_)
                      refine lv_iinc (v := nI (i60 + 1)) (lv' := [(3, .int (nI (i60 + 1))), (6, .int ((1))), (5, .int ((mLF n r (i60) (mLK n r 3 σ)).2 11 (4 * n + i60))), (4, .int (nI (4 * r + i60))), (0, .ref (h 25)), (1, .int (nI (n))), (2, .int (nI (r)))]) hC.1 hC.2.1 dX3_layOver_202 hl (k := 3) rfl (n_inc _) (by decide) rfl (fun ls hl => ?_)
                      refine lv_goto (tgt := 60) hC.1 hC.2.1 dX3_layOver_205 (by decide) ?_
                      have hS3 : ∀ k, wS (mLF n r k (mLK n r 3 σ)) := fun k => wS_LF n r (wS_LK n r hS 3) ((kp_LK n r σ 3).L hL) k
                      have hL3 : ∀ k, wL (mLF n r k (mLK n r 3 σ)) := fun k => ((kp_LK n r σ 3).tr (kp_LF n r _ k)).L hL
                      have hσ : sU (sU (mLF n r (i60) (mLK n r 3 σ)) 20 (4 * r + i60) ((mLF n r (i60) (mLK n r 3 σ)).2 11 (4 * n + i60))) 21 (4 * r + i60) ((mLF n r (i60) (mLK n r 3 σ)).2 9 n) = mLF n r (i60 + 1) (mLK n r 3 σ) := by
                        simp only [mLF, mLFs, mLFu, mComes, if_neg c_91, if_pos c_101, if_pos c_112, if_neg c_151, if_pos c_161, if_pos c_172, if_pos (show (0 : Int32) = 0 from rfl), if_neg (show ¬ (1 : Int32) = 0 by decide), if_true, if_false]
                      exact ih60 (i60 + 1) (by omega) _ _ (hG.eq (by rw [hσ])) ls (lv_sub hl [0, 4, 5, 6] rfl)
                    · skip
                      refine lv_iload hC.1 hC.2.1 dX3_layOver_175 (lv_at hl 0 rfl) ?_
                      refine lv_if_eq (tgt := 202) hC.1 hC.2.1 dX3_layOver_177 (by decide) (fun c_177 => absurd c_177 (by decide)) (fun c_177 => ?_)
                      refine lv_aload_n hC.1 hC.2.1 dX3_layOver_180 rfl (lv_at hl 4 rfl) ?_
                      refine m_geta hC hE hG 20 (by decide) (fun _ => rfl) q776 rfl dX3_layOver_181 ?_
                      refine lv_iload hC.1 hC.2.1 dX3_layOver_184 (lv_at hl 2 rfl) ?_
                      refine lv_iload hC.1 hC.2.1 dX3_layOver_186 (lv_at hl 1 rfl) ?_
                      refine m_ist hC hE hG 20 (by decide) rfl (N := 320) rfl (by decide) (j := 4 * r + i60) (by omega) dX3_layOver_188 (fun H locs hG => ?_)
                      refine lv_aload_n hC.1 hC.2.1 dX3_layOver_189 rfl (lv_at hl 4 rfl) ?_
                      refine m_geta hC hE hG 21 (by decide) (fun _ => rfl) q777 rfl dX3_layOver_190 ?_
                      refine lv_iload hC.1 hC.2.1 dX3_layOver_193 (lv_at hl 2 rfl) ?_
                      refine lv_aload_n hC.1 hC.2.1 dX3_layOver_195 rfl (lv_at hl 4 rfl) ?_
                      refine m_geta hC hE hG 9 (by decide) (fun _ => rfl) q765 rfl dX3_layOver_196 ?_
                      refine lv_iload_n hC.1 hC.2.1 dX3_layOver_199 rfl (lv_at hl 5 rfl) ?_
                      refine m_ild hC hE hG 9 (by decide) rfl (N := 80) rfl (by decide) (j := n) (v := (mLF n r (i60) (mLK n r 3 σ)).2 9 n) (by omega) (rfl) dX3_layOver_200 ?_
                      refine m_ist hC hE hG 21 (by decide) rfl (N := 320) rfl (by decide) (j := 4 * r + i60) (by omega) dX3_layOver_201 (fun H locs hG => ?_)
                      refine lv_iinc (v := nI (i60 + 1)) (lv' := [(3, .int (nI (i60 + 1))), (6, .int ((1))), (5, .int ((mLF n r (i60) (mLK n r 3 σ)).2 11 (4 * n + i60))), (4, .int (nI (4 * r + i60))), (0, .ref (h 25)), (1, .int (nI (n))), (2, .int (nI (r)))]) hC.1 hC.2.1 dX3_layOver_202 hl (k := 3) rfl (n_inc _) (by decide) rfl (fun ls hl => ?_)
                      refine lv_goto (tgt := 60) hC.1 hC.2.1 dX3_layOver_205 (by decide) ?_
                      have hS3 : ∀ k, wS (mLF n r k (mLK n r 3 σ)) := fun k => wS_LF n r (wS_LK n r hS 3) ((kp_LK n r σ 3).L hL) k
                      have hL3 : ∀ k, wL (mLF n r k (mLK n r 3 σ)) := fun k => ((kp_LK n r σ 3).tr (kp_LF n r _ k)).L hL
                      have hσ : sU (sU (mLF n r (i60) (mLK n r 3 σ)) 20 (4 * r + i60) ((mLF n r (i60) (mLK n r 3 σ)).2 11 (4 * n + i60))) 21 (4 * r + i60) ((mLF n r (i60) (mLK n r 3 σ)).2 9 n) = mLF n r (i60 + 1) (mLK n r 3 σ) := by
                        simp only [mLF, mLFs, mLFu, mComes, if_neg c_91, if_pos c_101, if_pos c_112, if_neg c_151, if_pos c_161, if_neg c_172, if_pos (show (0 : Int32) = 0 from rfl), if_neg (show ¬ (1 : Int32) = 0 by decide), if_true, if_false]
                      exact ih60 (i60 + 1) (by omega) _ _ (hG.eq (by rw [hσ])) ls (lv_sub hl [0, 4, 5, 6] rfl)
              · skip
                refine lv_aload_n hC.1 hC.2.1 dX3_layOver_115 rfl (lv_at hl 3 rfl) ?_
                refine m_geta hC hE hG 0 (by decide) (fun _ => rfl) q756 rfl dX3_layOver_116 ?_
                refine lv_aload_n hC.1 hC.2.1 dX3_layOver_119 rfl (lv_at hl 3 rfl) ?_
                refine m_geta hC hE hG 9 (by decide) (fun _ => rfl) q765 rfl dX3_layOver_120 ?_
                refine lv_iload_n hC.1 hC.2.1 dX3_layOver_123 rfl (lv_at hl 4 rfl) ?_
                refine m_ild hC hE hG 9 (by decide) rfl (N := 80) rfl (by decide) (j := n) (v := (mLF n r (i60) (mLK n r 3 σ)).2 9 n) (by omega) (rfl) dX3_layOver_124 ?_
                refine m_iald hC hE hG 0 (by decide) rfl (N := 5) rfl (i := (mLF n r (i60) (mLK n r 3 σ)).2 9 n) (v := (mLF n r (i60) (mLK n r 3 σ)).2 0 (tN ((mLF n r (i60) (mLK n r 3 σ)).2 9 n))) ((hL3 i60 n).1) (rfl) dX3_layOver_125 ?_
                refine lv_aload_n hC.1 hC.2.1 dX3_layOver_126 rfl (lv_at hl 3 rfl) ?_
                refine m_geta hC hE hG 0 (by decide) (fun _ => rfl) q756 rfl dX3_layOver_127 ?_
                refine lv_aload_n hC.1 hC.2.1 dX3_layOver_130 rfl (lv_at hl 3 rfl) ?_
                refine m_geta hC hE hG 21 (by decide) (fun _ => rfl) q777 rfl dX3_layOver_131 ?_
                refine lv_iload hC.1 hC.2.1 dX3_layOver_134 (lv_at hl 1 rfl) ?_
                refine m_ild hC hE hG 21 (by decide) rfl (N := 320) rfl (by decide) (j := 4 * r + i60) (v := (mLF n r (i60) (mLK n r 3 σ)).2 21 (4 * r + i60)) (by omega) (rfl) dX3_layOver_136 ?_
                refine m_iald hC hE hG 0 (by decide) rfl (N := 5) rfl (i := (mLF n r (i60) (mLK n r 3 σ)).2 21 (4 * r + i60)) (v := (mLF n r (i60) (mLK n r 3 σ)).2 0 (tN ((mLF n r (i60) (mLK n r 3 σ)).2 21 (4 * r + i60)))) ((hS3 i60 _).resolve_left c_112) (rfl) dX3_layOver_137 ?_
                refine lv_icmp_lt (tgt := 145) hC.1 hC.2.1 dX3_layOver_138 (by decide) (fun c_138 => ?_) (fun c_138 => ?_)
                · skip
                  refine lv_iconst (v := 0) hC.1 hC.2.1 dX3_layOver_145 (by decide) ?_
                  refine lv_istore (lv' := [(6, .int ((0))), (5, .int ((mLF n r (i60) (mLK n r 3 σ)).2 11 (4 * n + i60))), (4, .int (nI (4 * r + i60))), (3, .int (nI (i60))), (0, .ref (h 25)), (1, .int (nI (n))), (2, .int (nI (r)))]) hC.1 hC.2.1 dX3_layOver_146 hl (by decide) rfl (fun ls hl => ?_)
                  refine lv_iload hC.1 hC.2.1 dX3_layOver_148 (lv_at hl 1 rfl) ?_
                  refine lv_iconst (v := -1) hC.1 hC.2.1 dX3_layOver_150 (by decide) ?_
                  refine lv_icmp_eq (tgt := 202) hC.1 hC.2.1 dX3_layOver_151 (by decide) (fun c_151 => ?_) (fun c_151 => ?_)
                  · skip
                    refine lv_iinc (v := nI (i60 + 1)) (lv' := [(3, .int (nI (i60 + 1))), (6, .int ((0))), (5, .int ((mLF n r (i60) (mLK n r 3 σ)).2 11 (4 * n + i60))), (4, .int (nI (4 * r + i60))), (0, .ref (h 25)), (1, .int (nI (n))), (2, .int (nI (r)))]) hC.1 hC.2.1 dX3_layOver_202 hl (k := 3) rfl (n_inc _) (by decide) rfl (fun ls hl => ?_)
                    refine lv_goto (tgt := 60) hC.1 hC.2.1 dX3_layOver_205 (by decide) ?_
                    have hS3 : ∀ k, wS (mLF n r k (mLK n r 3 σ)) := fun k => wS_LF n r (wS_LK n r hS 3) ((kp_LK n r σ 3).L hL) k
                    have hL3 : ∀ k, wL (mLF n r k (mLK n r 3 σ)) := fun k => ((kp_LK n r σ 3).tr (kp_LF n r _ k)).L hL
                    have hσ : mLF n r (i60) (mLK n r 3 σ) = mLF n r (i60 + 1) (mLK n r 3 σ) := by
                      simp only [mLF, mLFs, mLFu, mComes, if_neg c_91, if_pos c_101, if_neg c_112, if_pos c_138, if_pos c_151, if_pos (show (0 : Int32) = 0 from rfl), if_neg (show ¬ (1 : Int32) = 0 by decide), if_true, if_false]
                    exact ih60 (i60 + 1) (by omega) _ _ (hG.eq (by rw [hσ])) ls (lv_sub hl [0, 4, 5, 6] rfl)
                  · skip
                    refine lv_aload_n hC.1 hC.2.1 dX3_layOver_154 rfl (lv_at hl 4 rfl) ?_
                    refine m_geta hC hE hG 22 (by decide) (fun _ => rfl) q778 rfl dX3_layOver_155 ?_
                    refine lv_iload hC.1 hC.2.1 dX3_layOver_158 (lv_at hl 2 rfl) ?_
                    refine m_zld hC hE hG 22 (by decide) rfl (N := 320) rfl (by decide) (j := 4 * r + i60) (v := (mLF n r (i60) (mLK n r 3 σ)).2 22 (4 * r + i60)) (by omega) (rfl) dX3_layOver_160 ?_
                    refine lv_if_ne (tgt := 202) hC.1 hC.2.1 dX3_layOver_161 (by decide) (fun c_161 => ?_) (fun c_161 => ?_)
                    · skip
                      refine lv_iinc (v := nI (i60 + 1)) (lv' := [(3, .int (nI (i60 + 1))), (6, .int ((0))), (5, .int ((mLF n r (i60) (mLK n r 3 σ)).2 11 (4 * n + i60))), (4, .int (nI (4 * r + i60))), (0, .ref (h 25)), (1, .int (nI (n))), (2, .int (nI (r)))]) hC.1 hC.2.1 dX3_layOver_202 hl (k := 3) rfl (n_inc _) (by decide) rfl (fun ls hl => ?_)
                      refine lv_goto (tgt := 60) hC.1 hC.2.1 dX3_layOver_205 (by decide) ?_
                      have hS3 : ∀ k, wS (mLF n r k (mLK n r 3 σ)) := fun k => wS_LF n r (wS_LK n r hS 3) ((kp_LK n r σ 3).L hL) k
                      have hL3 : ∀ k, wL (mLF n r k (mLK n r 3 σ)) := fun k => ((kp_LK n r σ 3).tr (kp_LF n r _ k)).L hL
                      have hσ : mLF n r (i60) (mLK n r 3 σ) = mLF n r (i60 + 1) (mLK n r 3 σ) := by
                        simp only [mLF, mLFs, mLFu, mComes, if_neg c_91, if_pos c_101, if_neg c_112, if_pos c_138, if_neg c_151, if_neg c_161, if_pos (show (0 : Int32) = 0 from rfl), if_neg (show ¬ (1 : Int32) = 0 by decide), if_true, if_false]
                      exact ih60 (i60 + 1) (by omega) _ _ (hG.eq (by rw [hσ])) ls (lv_sub hl [0, 4, 5, 6] rfl)
                    · skip
                      refine lv_aload_n hC.1 hC.2.1 dX3_layOver_164 rfl (lv_at hl 4 rfl) ?_
                      refine m_geta hC hE hG 20 (by decide) (fun _ => rfl) q776 rfl dX3_layOver_165 ?_
                      refine lv_iload hC.1 hC.2.1 dX3_layOver_168 (lv_at hl 2 rfl) ?_
                      refine m_ild hC hE hG 20 (by decide) rfl (N := 320) rfl (by decide) (j := 4 * r + i60) (v := (mLF n r (i60) (mLK n r 3 σ)).2 20 (4 * r + i60)) (by omega) (rfl) dX3_layOver_170 ?_
                      refine lv_iconst (v := -1) hC.1 hC.2.1 dX3_layOver_171 (by decide) ?_
                      refine lv_icmp_eq (tgt := 180) hC.1 hC.2.1 dX3_layOver_172 (by decide) (fun c_172 => ?_) (fun c_172 => ?_)
                      · skip
                        refine lv_aload_n hC.1 hC.2.1 dX3_layOver_180 rfl (lv_at hl 4 rfl) ?_
                        refine m_geta hC hE hG 20 (by decide) (fun _ => rfl) q776 rfl dX3_layOver_181 ?_
                        refine lv_iload hC.1 hC.2.1 dX3_layOver_184 (lv_at hl 2 rfl) ?_
                        refine lv_iload hC.1 hC.2.1 dX3_layOver_186 (lv_at hl 1 rfl) ?_
                        refine m_ist hC hE hG 20 (by decide) rfl (N := 320) rfl (by decide) (j := 4 * r + i60) (by omega) dX3_layOver_188 (fun H locs hG => ?_)
                        refine lv_aload_n hC.1 hC.2.1 dX3_layOver_189 rfl (lv_at hl 4 rfl) ?_
                        refine m_geta hC hE hG 21 (by decide) (fun _ => rfl) q777 rfl dX3_layOver_190 ?_
                        refine lv_iload hC.1 hC.2.1 dX3_layOver_193 (lv_at hl 2 rfl) ?_
                        refine lv_aload_n hC.1 hC.2.1 dX3_layOver_195 rfl (lv_at hl 4 rfl) ?_
                        refine m_geta hC hE hG 9 (by decide) (fun _ => rfl) q765 rfl dX3_layOver_196 ?_
                        refine lv_iload_n hC.1 hC.2.1 dX3_layOver_199 rfl (lv_at hl 5 rfl) ?_
                        refine m_ild hC hE hG 9 (by decide) rfl (N := 80) rfl (by decide) (j := n) (v := (mLF n r (i60) (mLK n r 3 σ)).2 9 n) (by omega) (rfl) dX3_layOver_200 ?_
                        refine m_ist hC hE hG 21 (by decide) rfl (N := 320) rfl (by decide) (j := 4 * r + i60) (by omega) dX3_layOver_201 (fun H locs hG => ?_)
                        refine lv_iinc (v := nI (i60 + 1)) (lv' := [(3, .int (nI (i60 + 1))), (6, .int ((0))), (5, .int ((mLF n r (i60) (mLK n r 3 σ)).2 11 (4 * n + i60))), (4, .int (nI (4 * r + i60))), (0, .ref (h 25)), (1, .int (nI (n))), (2, .int (nI (r)))]) hC.1 hC.2.1 dX3_layOver_202 hl (k := 3) rfl (n_inc _) (by decide) rfl (fun ls hl => ?_)
                        refine lv_goto (tgt := 60) hC.1 hC.2.1 dX3_layOver_205 (by decide) ?_
                        have hS3 : ∀ k, wS (mLF n r k (mLK n r 3 σ)) := fun k => wS_LF n r (wS_LK n r hS 3) ((kp_LK n r σ 3).L hL) k
                        have hL3 : ∀ k, wL (mLF n r k (mLK n r 3 σ)) := fun k => ((kp_LK n r σ 3).tr (kp_LF n r _ k)).L hL
                        have hσ : sU (sU (mLF n r (i60) (mLK n r 3 σ)) 20 (4 * r + i60) ((mLF n r (i60) (mLK n r 3 σ)).2 11 (4 * n + i60))) 21 (4 * r + i60) ((mLF n r (i60) (mLK n r 3 σ)).2 9 n) = mLF n r (i60 + 1) (mLK n r 3 σ) := by
                          simp only [mLF, mLFs, mLFu, mComes, if_neg c_91, if_pos c_101, if_neg c_112, if_pos c_138, if_neg c_151, if_pos c_161, if_pos c_172, if_pos (show (0 : Int32) = 0 from rfl), if_neg (show ¬ (1 : Int32) = 0 by decide), if_true, if_false]
                        exact ih60 (i60 + 1) (by omega) _ _ (hG.eq (by rw [hσ])) ls (lv_sub hl [0, 4, 5, 6] rfl)
                      · skip
                        refine lv_iload hC.1 hC.2.1 dX3_layOver_175 (lv_at hl 0 rfl) ?_
                        refine lv_if_eq (tgt := 202) hC.1 hC.2.1 dX3_layOver_177 (by decide) (fun c_177 => ?_) (fun c_177 => absurd c_177 (by decide))
                        refine lv_iinc (v := nI (i60 + 1)) (lv' := [(3, .int (nI (i60 + 1))), (6, .int ((0))), (5, .int ((mLF n r (i60) (mLK n r 3 σ)).2 11 (4 * n + i60))), (4, .int (nI (4 * r + i60))), (0, .ref (h 25)), (1, .int (nI (n))), (2, .int (nI (r)))]) hC.1 hC.2.1 dX3_layOver_202 hl (k := 3) rfl (n_inc _) (by decide) rfl (fun ls hl => ?_)
                        refine lv_goto (tgt := 60) hC.1 hC.2.1 dX3_layOver_205 (by decide) ?_
                        have hS3 : ∀ k, wS (mLF n r k (mLK n r 3 σ)) := fun k => wS_LF n r (wS_LK n r hS 3) ((kp_LK n r σ 3).L hL) k
                        have hL3 : ∀ k, wL (mLF n r k (mLK n r 3 σ)) := fun k => ((kp_LK n r σ 3).tr (kp_LF n r _ k)).L hL
                        have hσ : mLF n r (i60) (mLK n r 3 σ) = mLF n r (i60 + 1) (mLK n r 3 σ) := by
                          simp only [mLF, mLFs, mLFu, mComes, if_neg c_91, if_pos c_101, if_neg c_112, if_pos c_138, if_neg c_151, if_pos c_161, if_neg c_172, if_pos (show (0 : Int32) = 0 from rfl), if_neg (show ¬ (1 : Int32) = 0 by decide), if_true, if_false]
                        exact ih60 (i60 + 1) (by omega) _ _ (hG.eq (by rw [hσ])) ls (lv_sub hl [0, 4, 5, 6] rfl)
                · skip
                  refine lv_iconst (v := 1) hC.1 hC.2.1 dX3_layOver_141 (by decide) ?_
                  refine lv_goto (tgt := 146) hC.1 hC.2.1 dX3_layOver_142 (by decide) ?_
                  refine lv_istore (lv' := [(6, .int ((1))), (5, .int ((mLF n r (i60) (mLK n r 3 σ)).2 11 (4 * n + i60))), (4, .int (nI (4 * r + i60))), (3, .int (nI (i60))), (0, .ref (h 25)), (1, .int (nI (n))), (2, .int (nI (r)))]) hC.1 hC.2.1 dX3_layOver_146 hl (by decide) rfl (fun ls hl => ?_)
                  refine lv_iload hC.1 hC.2.1 dX3_layOver_148 (lv_at hl 1 rfl) ?_
                  refine lv_iconst (v := -1) hC.1 hC.2.1 dX3_layOver_150 (by decide) ?_
                  refine lv_icmp_eq (tgt := 202) hC.1 hC.2.1 dX3_layOver_151 (by decide) (fun c_151 => ?_) (fun c_151 => ?_)
                  · skip
                    refine lv_iinc (v := nI (i60 + 1)) (lv' := [(3, .int (nI (i60 + 1))), (6, .int ((1))), (5, .int ((mLF n r (i60) (mLK n r 3 σ)).2 11 (4 * n + i60))), (4, .int (nI (4 * r + i60))), (0, .ref (h 25)), (1, .int (nI (n))), (2, .int (nI (r)))]) hC.1 hC.2.1 dX3_layOver_202 hl (k := 3) rfl (n_inc _) (by decide) rfl (fun ls hl => ?_)
                    refine lv_goto (tgt := 60) hC.1 hC.2.1 dX3_layOver_205 (by decide) ?_
                    have hS3 : ∀ k, wS (mLF n r k (mLK n r 3 σ)) := fun k => wS_LF n r (wS_LK n r hS 3) ((kp_LK n r σ 3).L hL) k
                    have hL3 : ∀ k, wL (mLF n r k (mLK n r 3 σ)) := fun k => ((kp_LK n r σ 3).tr (kp_LF n r _ k)).L hL
                    have hσ : mLF n r (i60) (mLK n r 3 σ) = mLF n r (i60 + 1) (mLK n r 3 σ) := by
                      simp only [mLF, mLFs, mLFu, mComes, if_neg c_91, if_pos c_101, if_neg c_112, if_neg c_138, if_pos c_151, if_pos (show (0 : Int32) = 0 from rfl), if_neg (show ¬ (1 : Int32) = 0 by decide), if_true, if_false]
                    exact ih60 (i60 + 1) (by omega) _ _ (hG.eq (by rw [hσ])) ls (lv_sub hl [0, 4, 5, 6] rfl)
                  · skip
                    refine lv_aload_n hC.1 hC.2.1 dX3_layOver_154 rfl (lv_at hl 4 rfl) ?_
                    refine m_geta hC hE hG 22 (by decide) (fun _ => rfl) q778 rfl dX3_layOver_155 ?_
                    refine lv_iload hC.1 hC.2.1 dX3_layOver_158 (lv_at hl 2 rfl) ?_
                    refine m_zld hC hE hG 22 (by decide) rfl (N := 320) rfl (by decide) (j := 4 * r + i60) (v := (mLF n r (i60) (mLK n r 3 σ)).2 22 (4 * r + i60)) (by omega) (rfl) dX3_layOver_160 ?_
                    refine lv_if_ne (tgt := 202) hC.1 hC.2.1 dX3_layOver_161 (by decide) (fun c_161 => ?_) (fun c_161 => ?_)
                    · skip
                      refine lv_iinc (v := nI (i60 + 1)) (lv' := [(3, .int (nI (i60 + 1))), (6, .int ((1))), (5, .int ((mLF n r (i60) (mLK n r 3 σ)).2 11 (4 * n + i60))), (4, .int (nI (4 * r + i60))), (0, .ref (h 25)), (1, .int (nI (n))), (2, .int (nI (r)))]) hC.1 hC.2.1 dX3_layOver_202 hl (k := 3) rfl (n_inc _) (by decide) rfl (fun ls hl => ?_)
                      refine lv_goto (tgt := 60) hC.1 hC.2.1 dX3_layOver_205 (by decide) ?_
                      have hS3 : ∀ k, wS (mLF n r k (mLK n r 3 σ)) := fun k => wS_LF n r (wS_LK n r hS 3) ((kp_LK n r σ 3).L hL) k
                      have hL3 : ∀ k, wL (mLF n r k (mLK n r 3 σ)) := fun k => ((kp_LK n r σ 3).tr (kp_LF n r _ k)).L hL
                      have hσ : mLF n r (i60) (mLK n r 3 σ) = mLF n r (i60 + 1) (mLK n r 3 σ) := by
                        simp only [mLF, mLFs, mLFu, mComes, if_neg c_91, if_pos c_101, if_neg c_112, if_neg c_138, if_neg c_151, if_neg c_161, if_pos (show (0 : Int32) = 0 from rfl), if_neg (show ¬ (1 : Int32) = 0 by decide), if_true, if_false]
                      exact ih60 (i60 + 1) (by omega) _ _ (hG.eq (by rw [hσ])) ls (lv_sub hl [0, 4, 5, 6] rfl)
                    · skip
                      refine lv_aload_n hC.1 hC.2.1 dX3_layOver_164 rfl (lv_at hl 4 rfl) ?_
                      refine m_geta hC hE hG 20 (by decide) (fun _ => rfl) q776 rfl dX3_layOver_165 ?_
                      refine lv_iload hC.1 hC.2.1 dX3_layOver_168 (lv_at hl 2 rfl) ?_
                      refine m_ild hC hE hG 20 (by decide) rfl (N := 320) rfl (by decide) (j := 4 * r + i60) (v := (mLF n r (i60) (mLK n r 3 σ)).2 20 (4 * r + i60)) (by omega) (rfl) dX3_layOver_170 ?_
                      refine lv_iconst (v := -1) hC.1 hC.2.1 dX3_layOver_171 (by decide) ?_
                      refine lv_icmp_eq (tgt := 180) hC.1 hC.2.1 dX3_layOver_172 (by decide) (fun c_172 => ?_) (fun c_172 => ?_)
                      · skip
                        refine lv_aload_n hC.1 hC.2.1 dX3_layOver_180 rfl (lv_at hl 4 rfl) ?_
                        refine m_geta hC hE hG 20 (by decide) (fun _ => rfl) q776 rfl dX3_layOver_181 ?_
                        refine lv_iload hC.1 hC.2.1 dX3_layOver_184 (lv_at hl 2 rfl) ?_
                        refine lv_iload hC.1 hC.2.1 dX3_layOver_186 (lv_at hl 1 rfl) ?_
                        refine m_ist hC hE hG 20 (by decide) rfl (N := 320) rfl (by decide) (j := 4 * r + i60) (by omega) dX3_layOver_188 (fun H locs hG => ?_)
                        refine lv_aload_n hC.1 hC.2.1 dX3_layOver_189 rfl (lv_at hl 4 rfl) ?_
                        refine m_geta hC hE hG 21 (by decide) (fun _ => rfl) q777 rfl dX3_layOver_190 ?_
                        refine lv_iload hC.1 hC.2.1 dX3_layOver_193 (lv_at hl 2 rfl) ?_
                        refine lv_aload_n hC.1 hC.2.1 dX3_layOver_195 rfl (lv_at hl 4 rfl) ?_
                        refine m_geta hC hE hG 9 (by decide) (fun _ => rfl) q765 rfl dX3_layOver_196 ?_
                        refine lv_iload_n hC.1 hC.2.1 dX3_layOver_199 rfl (lv_at hl 5 rfl) ?_
                        refine m_ild hC hE hG 9 (by decide) rfl (N := 80) rfl (by decide) (j := n) (v := (mLF n r (i60) (mLK n r 3 σ)).2 9 n) (by omega) (rfl) dX3_layOver_200 ?_
                        refine m_ist hC hE hG 21 (by decide) rfl (N := 320) rfl (by decide) (j := 4 * r + i60) (by omega) dX3_layOver_201 (fun H locs hG => ?_)
                        refine lv_iinc (v := nI (i60 + 1)) (lv' := [(3, .int (nI (i60 + 1))), (6, .int ((1))), (5, .int ((mLF n r (i60) (mLK n r 3 σ)).2 11 (4 * n + i60))), (4, .int (nI (4 * r + i60))), (0, .ref (h 25)), (1, .int (nI (n))), (2, .int (nI (r)))]) hC.1 hC.2.1 dX3_layOver_202 hl (k := 3) rfl (n_inc _) (by decide) rfl (fun ls hl => ?_)
                        refine lv_goto (tgt := 60) hC.1 hC.2.1 dX3_layOver_205 (by decide) ?_
                        have hS3 : ∀ k, wS (mLF n r k (mLK n r 3 σ)) := fun k => wS_LF n r (wS_LK n r hS 3) ((kp_LK n r σ 3).L hL) k
                        have hL3 : ∀ k, wL (mLF n r k (mLK n r 3 σ)) := fun k => ((kp_LK n r σ 3).tr (kp_LF n r _ k)).L hL
                        have hσ : sU (sU (mLF n r (i60) (mLK n r 3 σ)) 20 (4 * r + i60) ((mLF n r (i60) (mLK n r 3 σ)).2 11 (4 * n + i60))) 21 (4 * r + i60) ((mLF n r (i60) (mLK n r 3 σ)).2 9 n) = mLF n r (i60 + 1) (mLK n r 3 σ) := by
                          simp only [mLF, mLFs, mLFu, mComes, if_neg c_91, if_pos c_101, if_neg c_112, if_neg c_138, if_neg c_151, if_pos c_161, if_pos c_172, if_pos (show (0 : Int32) = 0 from rfl), if_neg (show ¬ (1 : Int32) = 0 by decide), if_true, if_false]
                        exact ih60 (i60 + 1) (by omega) _ _ (hG.eq (by rw [hσ])) ls (lv_sub hl [0, 4, 5, 6] rfl)
                      · skip
                        refine lv_iload hC.1 hC.2.1 dX3_layOver_175 (lv_at hl 0 rfl) ?_
                        refine lv_if_eq (tgt := 202) hC.1 hC.2.1 dX3_layOver_177 (by decide) (fun c_177 => absurd c_177 (by decide)) (fun c_177 => ?_)
                        refine lv_aload_n hC.1 hC.2.1 dX3_layOver_180 rfl (lv_at hl 4 rfl) ?_
                        refine m_geta hC hE hG 20 (by decide) (fun _ => rfl) q776 rfl dX3_layOver_181 ?_
                        refine lv_iload hC.1 hC.2.1 dX3_layOver_184 (lv_at hl 2 rfl) ?_
                        refine lv_iload hC.1 hC.2.1 dX3_layOver_186 (lv_at hl 1 rfl) ?_
                        refine m_ist hC hE hG 20 (by decide) rfl (N := 320) rfl (by decide) (j := 4 * r + i60) (by omega) dX3_layOver_188 (fun H locs hG => ?_)
                        refine lv_aload_n hC.1 hC.2.1 dX3_layOver_189 rfl (lv_at hl 4 rfl) ?_
                        refine m_geta hC hE hG 21 (by decide) (fun _ => rfl) q777 rfl dX3_layOver_190 ?_
                        refine lv_iload hC.1 hC.2.1 dX3_layOver_193 (lv_at hl 2 rfl) ?_
                        refine lv_aload_n hC.1 hC.2.1 dX3_layOver_195 rfl (lv_at hl 4 rfl) ?_
                        refine m_geta hC hE hG 9 (by decide) (fun _ => rfl) q765 rfl dX3_layOver_196 ?_
                        refine lv_iload_n hC.1 hC.2.1 dX3_layOver_199 rfl (lv_at hl 5 rfl) ?_
                        refine m_ild hC hE hG 9 (by decide) rfl (N := 80) rfl (by decide) (j := n) (v := (mLF n r (i60) (mLK n r 3 σ)).2 9 n) (by omega) (rfl) dX3_layOver_200 ?_
                        refine m_ist hC hE hG 21 (by decide) rfl (N := 320) rfl (by decide) (j := 4 * r + i60) (by omega) dX3_layOver_201 (fun H locs hG => ?_)
                        refine lv_iinc (v := nI (i60 + 1)) (lv' := [(3, .int (nI (i60 + 1))), (6, .int ((1))), (5, .int ((mLF n r (i60) (mLK n r 3 σ)).2 11 (4 * n + i60))), (4, .int (nI (4 * r + i60))), (0, .ref (h 25)), (1, .int (nI (n))), (2, .int (nI (r)))]) hC.1 hC.2.1 dX3_layOver_202 hl (k := 3) rfl (n_inc _) (by decide) rfl (fun ls hl => ?_)
                        refine lv_goto (tgt := 60) hC.1 hC.2.1 dX3_layOver_205 (by decide) ?_
                        have hS3 : ∀ k, wS (mLF n r k (mLK n r 3 σ)) := fun k => wS_LF n r (wS_LK n r hS 3) ((kp_LK n r σ 3).L hL) k
                        have hL3 : ∀ k, wL (mLF n r k (mLK n r 3 σ)) := fun k => ((kp_LK n r σ 3).tr (kp_LF n r _ k)).L hL
                        have hσ : sU (sU (mLF n r (i60) (mLK n r 3 σ)) 20 (4 * r + i60) ((mLF n r (i60) (mLK n r 3 σ)).2 11 (4 * n + i60))) 21 (4 * r + i60) ((mLF n r (i60) (mLK n r 3 σ)).2 9 n) = mLF n r (i60 + 1) (mLK n r 3 σ) := by
                          simp only [mLF, mLFs, mLFu, mComes, if_neg c_91, if_pos c_101, if_neg c_112, if_neg c_138, if_neg c_151, if_pos c_161, if_neg c_172, if_pos (show (0 : Int32) = 0 from rfl), if_neg (show ¬ (1 : Int32) = 0 by decide), if_true, if_false]
                        exact ih60 (i60 + 1) (by omega) _ _ (hG.eq (by rw [hσ])) ls (lv_sub hl [0, 4, 5, 6] rfl)
      exact lp60 4 0 (by omega) _ _ hG ls (lv_sub hl [0, 1, 2, 3] rfl)
    | succ nn ih2 =>
      intro i2 hi2 H locs hG ls hl
      have hlt2 : i2 < 3 := by omega
      refine lv_iload_n hC.1 hC.2.1 dX3_layOver_2 rfl (lv_at hl 0 rfl) ?_
      refine lv_iconst (v := 3) hC.1 hC.2.1 dX3_layOver_3 (by decide) ?_
      refine n_ge (a := i2) (b := 3) hC (by omega) (by omega) (tgt := 58) dX3_layOver_4 (by decide) (fun c_4 => absurd c_4 (by omega)) (fun c_4 => ?_)
      refine lv_iconst (v := 3) hC.1 hC.2.1 dX3_layOver_7 (by decide) ?_
      refine lv_iload_n hC.1 hC.2.1 dX3_layOver_8 rfl (lv_at hl 3 rfl) ?_
      refine n_mul (a := 3) (b := r) (d := 3 * r) hC (by first | rfl | omega) dX3_layOver_9 ?_
      refine lv_iload_n hC.1 hC.2.1 dX3_layOver_10 rfl (lv_at hl 0 rfl) ?_
      refine n_add (a := 3 * r) (b := i2) (d := 3 * r + i2) hC (by first | rfl | omega) dX3_layOver_11 ?_
      refine lv_istore (lv' := [(4, .int (nI (3 * r + i2))), (3, .int (nI (i2))), (0, .ref (h 25)), (1, .int (nI (n))), (2, .int (nI (r)))]) hC.1 hC.2.1 dX3_layOver_12 hl (by decide) rfl (fun ls hl => ?_)
      refine lv_aload_n hC.1 hC.2.1 dX3_layOver_14 rfl (lv_at hl 2 rfl) ?_
      refine m_geta hC hE hG 19 (by decide) (fun _ => rfl) q775 rfl dX3_layOver_15 ?_
      refine lv_iload hC.1 hC.2.1 dX3_layOver_18 (lv_at hl 0 rfl) ?_
      refine lv_aload_n hC.1 hC.2.1 dX3_layOver_20 rfl (lv_at hl 2 rfl) ?_
      refine m_geta hC hE hG 19 (by decide) (fun _ => rfl) q775 rfl dX3_layOver_21 ?_
      refine lv_iload hC.1 hC.2.1 dX3_layOver_24 (lv_at hl 0 rfl) ?_
      refine m_ild hC hE hG 19 (by decide) rfl (N := 240) rfl (by decide) (j := 3 * r + i2) (v := (mLK n r (i2) (σ)).2 19 (3 * r + i2)) (by omega) (rfl) dX3_layOver_26 ?_
      refine lv_iconst (v := -1) hC.1 hC.2.1 dX3_layOver_27 (by decide) ?_
      refine lv_icmp_ne (tgt := 44) hC.1 hC.2.1 dX3_layOver_28 (by decide) (fun c_28 => ?_) (fun c_28 => ?_)
      · skip
        refine lv_aload_n hC.1 hC.2.1 dX3_layOver_44 rfl (lv_at hl 2 rfl) ?_
        refine m_geta hC hE hG 19 (by decide) (fun _ => rfl) q775 rfl dX3_layOver_45 ?_
        refine lv_iload hC.1 hC.2.1 dX3_layOver_48 (lv_at hl 0 rfl) ?_
        refine m_ild hC hE hG 19 (by decide) rfl (N := 240) rfl (by decide) (j := 3 * r + i2) (v := (mLK n r (i2) (σ)).2 19 (3 * r + i2)) (by omega) (rfl) dX3_layOver_50 ?_
        refine m_ist hC hE hG 19 (by decide) rfl (N := 240) rfl (by decide) (j := 3 * r + i2) (by omega) dX3_layOver_51 (fun H locs hG => ?_)
        refine lv_iinc (v := nI (i2 + 1)) (lv' := [(3, .int (nI (i2 + 1))), (4, .int (nI (3 * r + i2))), (0, .ref (h 25)), (1, .int (nI (n))), (2, .int (nI (r)))]) hC.1 hC.2.1 dX3_layOver_52 hl (k := 1) rfl (n_inc _) (by decide) rfl (fun ls hl => ?_)
        refine lv_goto (tgt := 2) hC.1 hC.2.1 dX3_layOver_55 (by decide) ?_
        have hσ : sU (mLK n r (i2) (σ)) 19 (3 * r + i2) ((mLK n r (i2) (σ)).2 19 (3 * r + i2)) = mLK n r (i2 + 1) (σ) := by
          simp only [mLK, mLKs, if_neg c_28, if_true, if_false]
        exact ih2 (i2 + 1) (by omega) _ _ (hG.eq (by rw [hσ])) ls (lv_sub hl [0, 2, 3, 4] rfl)
      · skip
        refine lv_aload_n hC.1 hC.2.1 dX3_layOver_31 rfl (lv_at hl 2 rfl) ?_
        refine m_geta hC hE hG 10 (by decide) (fun _ => rfl) q766 rfl dX3_layOver_32 ?_
        refine lv_iconst (v := 3) hC.1 hC.2.1 dX3_layOver_35 (by decide) ?_
        refine lv_iload_n hC.1 hC.2.1 dX3_layOver_36 rfl (lv_at hl 3 rfl) ?_
        refine n_mul (a := 3) (b := n) (d := 3 * n) hC (by first | rfl | omega) dX3_layOver_37 ?_
        refine lv_iload_n hC.1 hC.2.1 dX3_layOver_38 rfl (lv_at hl 1 rfl) ?_
        refine n_add (a := 3 * n) (b := i2) (d := 3 * n + i2) hC (by first | rfl | omega) dX3_layOver_39 ?_
        refine m_ild hC hE hG 10 (by decide) rfl (N := 240) rfl (by decide) (j := 3 * n + i2) (v := (mLK n r (i2) (σ)).2 10 (3 * n + i2)) (by omega) (rfl) dX3_layOver_40 ?_
        refine lv_goto (tgt := 51) hC.1 hC.2.1 dX3_layOver_41 (by decide) ?_
        refine m_ist hC hE hG 19 (by decide) rfl (N := 240) rfl (by decide) (j := 3 * r + i2) (by omega) dX3_layOver_51 (fun H locs hG => ?_)
        refine lv_iinc (v := nI (i2 + 1)) (lv' := [(3, .int (nI (i2 + 1))), (4, .int (nI (3 * r + i2))), (0, .ref (h 25)), (1, .int (nI (n))), (2, .int (nI (r)))]) hC.1 hC.2.1 dX3_layOver_52 hl (k := 1) rfl (n_inc _) (by decide) rfl (fun ls hl => ?_)
        refine lv_goto (tgt := 2) hC.1 hC.2.1 dX3_layOver_55 (by decide) ?_
        have hσ : sU (mLK n r (i2) (σ)) 19 (3 * r + i2) ((mLK n r (i2) (σ)).2 10 (3 * n + i2)) = mLK n r (i2 + 1) (σ) := by
          simp only [mLK, mLKs, if_pos c_28, if_true, if_false]
        exact ih2 (i2 + 1) (by omega) _ _ (hG.eq (by rw [hσ])) ls (lv_sub hl [0, 2, 3, 4] rfl)
  exact lp2 3 0 (by omega) _ _ hG ls (lv_sub hl [0, 1, 2, 3] rfl)
set_option maxHeartbeats 4000000 in
theorem mt_match (l : Launch) (K : GK) (A : Nat → Prop) (G0 : GM) (h : Nat → Nat) (σ : MS) (n : Nat) (hn : n < 80) (hO : wO σ) : Met l yX3_match (ws_ yX3_match cX3_match 7 (some .int)) ({ frames := 0, cells := 0, slots := 0, locals := 0 }) (va_Pc ([.ref (h 25), .int (nI (n))]) (gW K A (mput K.2.1 h (σ) G0))) (vp_Si (fun r9 => r9 = mMatch σ n)) 0 0 (fun _ => False) := by
  refine g_ofW (cc := cX3_match) (by decide) (own := RX3) rfl (Nat.le_of_ble_eq_true rfl) ?_
  intro p e s m below meth c hC hr hlocks hnm hE hG ls hl
  have hl : lv_has ls 7 [(0, .ref (h 25)), (1, .int (nI (n)))] := hl
  refine lv_iconst (v := 0) hC.1 hC.2.1 dX3_match_0 (by decide) ?_
  refine lv_istore_n (lv' := [(2, .int ((0))), (0, .ref (h 25)), (1, .int (nI (n)))]) hC.1 hC.2.1 dX3_match_1 rfl hl (by decide) rfl (fun ls hl => ?_)
  have lp2 : ∀ (nn i2 : Nat), i2 + nn = 3 → mMatch σ n = mMt σ n (i2) nn → ∀ ls : Array Slot, lv_has ls 7 [(2, .int (nI (i2))), (0, .ref (h 25)), (1, .int (nI (n)))] → W p l e ({ frames := 0, cells := 0, slots := 0, locals := 0 }) s m ([.ref (h 25), .int (nI (n))] : List Value).toArray below meth c s.heap [] 0 0 (MQ below (vp_Si (fun r9 => r9 = mMatch σ n)) ([.ref (h 25), .int (nI (n))] : List Value).toArray s 0 0 (fun _ => False)) (F0 m 2 ls []) := by
    intro nn
    induction nn with
    | zero =>
      intro i2 hi2 hv2 ls hl
      obtain rfl : 3 = i2 := by omega
      refine lv_iload_n hC.1 hC.2.1 dX3_match_2 rfl (lv_at hl 0 rfl) ?_
      refine lv_iconst (v := 3) hC.1 hC.2.1 dX3_match_3 (by decide) ?_
      refine n_ge (a := 3) (b := 3) hC (by omega) (by omega) (tgt := 112) dX3_match_4 (by decide) (fun c_4 => ?_) (fun c_4 => absurd c_4 (by omega))
      refine lv_iconst (v := -1) hC.1 hC.2.1 dX3_match_112 (by decide) ?_
      exact g_roret hC hr (rfl) (by rw [hv2]; rfl) hlocks dX3_match_113
    | succ nn ih2 =>
      intro i2 hi2 hv2 ls hl
      have hlt2 : i2 < 3 := by omega
      refine lv_iload_n hC.1 hC.2.1 dX3_match_2 rfl (lv_at hl 0 rfl) ?_
      refine lv_iconst (v := 3) hC.1 hC.2.1 dX3_match_3 (by decide) ?_
      refine n_ge (a := i2) (b := 3) hC (by omega) (by omega) (tgt := 112) dX3_match_4 (by decide) (fun c_4 => absurd c_4 (by omega)) (fun c_4 => ?_)
      have ho2 := (vp_nat (hO i2) (by decide))
      refine lv_aload_n hC.1 hC.2.1 dX3_match_7 rfl (lv_at hl 1 rfl) ?_
      refine m_geta hC hE hG 10 (by decide) (fun _ => rfl) q766 rfl dX3_match_8 ?_
      refine lv_iconst (v := 3) hC.1 hC.2.1 dX3_match_11 (by decide) ?_
      refine lv_iload_n hC.1 hC.2.1 dX3_match_12 rfl (lv_at hl 2 rfl) ?_
      refine n_mul (a := 3) (b := n) (d := 3 * n) hC (by first | rfl | omega) dX3_match_13 ?_
      refine lv_aload_n hC.1 hC.2.1 dX3_match_14 rfl (lv_at hl 1 rfl) ?_
      refine m_geta hC hE hG 2 (by decide) (fun _ => rfl) q758 rfl dX3_match_15 ?_
      refine lv_iload_n hC.1 hC.2.1 dX3_match_18 rfl (lv_at hl 0 rfl) ?_
      refine m_ild hC hE hG 2 (by decide) rfl (N := 3) rfl (by decide) (j := i2) (v := nI (tN (σ.2 2 i2))) (by omega) ((vp_nat (hO i2) (by decide)).1) dX3_match_19 ?_
      refine n_add (a := 3 * n) (b := tN (σ.2 2 i2)) (d := 3 * n + (tN (σ.2 2 i2))) hC (by first | rfl | omega) dX3_match_20 ?_
      refine m_ild hC hE hG 10 (by decide) rfl (N := 240) rfl (by decide) (j := 3 * n + (tN (σ.2 2 i2))) (v := σ.2 10 (3 * n + (tN (σ.2 2 i2)))) (by omega) (rfl) dX3_match_21 ?_
      refine lv_istore_n (lv' := [(3, .int (σ.2 10 (3 * n + (tN (σ.2 2 i2))))), (2, .int (nI (i2))), (0, .ref (h 25)), (1, .int (nI (n)))]) hC.1 hC.2.1 dX3_match_22 rfl hl (by decide) rfl (fun ls hl => ?_)
      refine lv_iconst (v := 0) hC.1 hC.2.1 dX3_match_23 (by decide) ?_
      refine lv_istore (lv' := [(4, .int ((0))), (3, .int (σ.2 10 (3 * n + (tN (σ.2 2 i2))))), (2, .int (nI (i2))), (0, .ref (h 25)), (1, .int (nI (n)))]) hC.1 hC.2.1 dX3_match_24 hl (by decide) rfl (fun ls hl => ?_)
      refine lv_iconst (v := -1) hC.1 hC.2.1 dX3_match_26 (by decide) ?_
      refine lv_istore (lv' := [(5, .int ((-1))), (4, .int ((0))), (3, .int (σ.2 10 (3 * n + (tN (σ.2 2 i2))))), (2, .int (nI (i2))), (0, .ref (h 25)), (1, .int (nI (n)))]) hC.1 hC.2.1 dX3_match_27 hl (by decide) rfl (fun ls hl => ?_)
      refine lv_iconst (v := 0) hC.1 hC.2.1 dX3_match_29 (by decide) ?_
      refine lv_istore (lv' := [(6, .int ((0))), (5, .int ((-1))), (4, .int ((0))), (3, .int (σ.2 10 (3 * n + (tN (σ.2 2 i2))))), (2, .int (nI (i2))), (0, .ref (h 25)), (1, .int (nI (n)))]) hC.1 hC.2.1 dX3_match_30 hl (by decide) rfl (fun ls hl => ?_)
      by_cases hz : σ.2 10 (3 * n + (tN (σ.2 2 i2))) = -1
      · skip
        refine lv_iload hC.1 hC.2.1 dX3_match_32 (lv_at hl 0 rfl) ?_
        refine lv_bipush (v := 80) hC.1 hC.2.1 dX3_match_34 (by decide) ?_
        refine lv_icmp_ge (tgt := 87) hC.1 hC.2.1 dX3_match_36 (by decide) (fun c_36 => absurd c_36 (by decide)) (fun c_36 => ?_)
        refine lv_iload_n hC.1 hC.2.1 dX3_match_39 rfl (lv_at hl 3 rfl) ?_
        refine lv_iconst (v := -1) hC.1 hC.2.1 dX3_match_40 (by decide) ?_
        refine lv_icmp_eq (tgt := 87) hC.1 hC.2.1 dX3_match_41 (by decide) (fun c_41 => ?_) (fun c_41 => absurd hz c_41)
        refine lv_iload hC.1 hC.2.1 dX3_match_87 (lv_at hl 2 rfl) ?_
        refine lv_if_le (tgt := 106) hC.1 hC.2.1 dX3_match_89 (by decide) (fun c_89 => ?_) (fun c_89 => absurd c_89 (by decide))
        refine lv_iinc (v := nI (i2 + 1)) (lv' := [(2, .int (nI (i2 + 1))), (6, .int ((0))), (5, .int ((-1))), (4, .int ((0))), (3, .int (σ.2 10 (3 * n + (tN (σ.2 2 i2))))), (0, .ref (h 25)), (1, .int (nI (n)))]) hC.1 hC.2.1 dX3_match_106 hl (k := 4) rfl (n_inc _) (by decide) rfl (fun ls hl => ?_)
        refine lv_goto (tgt := 2) hC.1 hC.2.1 dX3_match_109 (by decide) ?_
        exact ih2 (i2 + 1) (by omega) (by rw [hv2]; simp only [mMt, mFd, if_pos hz, if_pos (show (0 : Int32) ≤ 0 by decide)]) ls (lv_sub hl [0, 5, 6] rfl)
      · skip
        have lp32 : ∀ (nn i32 : Nat), i32 + nn = 80 → ∀ ls : Array Slot, lv_has ls 7 [(6, .int (nI (i32))), (5, .int ((mFn σ (tN (σ.2 2 i2)) (σ.2 10 (3 * n + tN (σ.2 2 i2))) (i32)).2)), (4, .int ((mFn σ (tN (σ.2 2 i2)) (σ.2 10 (3 * n + tN (σ.2 2 i2))) (i32)).1)), (3, .int (σ.2 10 (3 * n + (tN (σ.2 2 i2))))), (2, .int (nI (i2))), (0, .ref (h 25)), (1, .int (nI (n)))] → W p l e ({ frames := 0, cells := 0, slots := 0, locals := 0 }) s m ([.ref (h 25), .int (nI (n))] : List Value).toArray below meth c s.heap [] 0 0 (MQ below (vp_Si (fun r9 => r9 = mMatch σ n)) ([.ref (h 25), .int (nI (n))] : List Value).toArray s 0 0 (fun _ => False)) (F0 m 32 ls []) := by
          intro nn
          induction nn with
          | zero =>
            intro i32 hi32 ls hl
            obtain rfl : 80 = i32 := by omega
            refine lv_iload hC.1 hC.2.1 dX3_match_32 (lv_at hl 0 rfl) ?_
            refine lv_bipush (v := 80) hC.1 hC.2.1 dX3_match_34 (by decide) ?_
            refine n_ge (a := 80) (b := 80) hC (by omega) (by omega) (tgt := 87) dX3_match_36 (by decide) (fun c_36 => ?_) (fun c_36 => absurd c_36 (by omega))
            refine lv_iload hC.1 hC.2.1 dX3_match_87 (lv_at hl 2 rfl) ?_
            refine lv_if_le (tgt := 106) hC.1 hC.2.1 dX3_match_89 (by decide) (fun c_89 => ?_) (fun c_89 => ?_)
            · skip
              refine lv_iinc (v := nI (i2 + 1)) (lv' := [(2, .int (nI (i2 + 1))), (6, .int (nI (80))), (5, .int ((mFn σ (tN (σ.2 2 i2)) (σ.2 10 (3 * n + tN (σ.2 2 i2))) (80)).2)), (4, .int ((mFn σ (tN (σ.2 2 i2)) (σ.2 10 (3 * n + tN (σ.2 2 i2))) (80)).1)), (3, .int (σ.2 10 (3 * n + (tN (σ.2 2 i2))))), (0, .ref (h 25)), (1, .int (nI (n)))]) hC.1 hC.2.1 dX3_match_106 hl (k := 4) rfl (n_inc _) (by decide) rfl (fun ls hl => ?_)
              refine lv_goto (tgt := 2) hC.1 hC.2.1 dX3_match_109 (by decide) ?_
              exact ih2 (i2 + 1) (by omega) (by rw [hv2]; simp only [mMt, mFd, if_neg hz, if_pos c_89]) ls (lv_sub hl [0, 5, 6] rfl)
            · skip
              refine lv_iload hC.1 hC.2.1 dX3_match_92 (lv_at hl 2 rfl) ?_
              refine lv_iconst (v := 1) hC.1 hC.2.1 dX3_match_94 (by decide) ?_
              refine lv_icmp_ne (tgt := 103) hC.1 hC.2.1 dX3_match_95 (by decide) (fun c_95 => ?_) (fun c_95 => ?_)
              · skip
                refine lv_bipush (v := -2) hC.1 hC.2.1 dX3_match_103 (by decide) ?_
                exact g_roret hC hr (rfl) (by rw [hv2]; simp only [mMt, mFd, if_neg hz, if_neg c_89, if_neg c_95, if_true, if_false]) hlocks dX3_match_105
              · skip
                refine lv_iload hC.1 hC.2.1 dX3_match_98 (lv_at hl 1 rfl) ?_
                refine lv_goto (tgt := 105) hC.1 hC.2.1 dX3_match_100 (by decide) ?_
                exact g_roret hC hr (rfl) (by rw [hv2]; simp only [mMt, mFd, if_neg hz, if_neg c_89, if_pos c_95, if_true, if_false]) hlocks dX3_match_105
          | succ nn ih32 =>
            intro i32 hi32 ls hl
            have hlt32 : i32 < 80 := by omega
            refine lv_iload hC.1 hC.2.1 dX3_match_32 (lv_at hl 0 rfl) ?_
            refine lv_bipush (v := 80) hC.1 hC.2.1 dX3_match_34 (by decide) ?_
            refine n_ge (a := i32) (b := 80) hC (by omega) (by omega) (tgt := 87) dX3_match_36 (by decide) (fun c_36 => absurd c_36 (by omega)) (fun c_36 => ?_)
            refine lv_iload_n hC.1 hC.2.1 dX3_match_39 rfl (lv_at hl 3 rfl) ?_
            refine lv_iconst (v := -1) hC.1 hC.2.1 dX3_match_40 (by decide) ?_
            refine lv_icmp_eq (tgt := 87) hC.1 hC.2.1 dX3_match_41 (by decide) (fun c_41 => absurd c_41 hz) (fun c_41 => ?_)
            refine lv_aload_n hC.1 hC.2.1 dX3_match_44 rfl (lv_at hl 5 rfl) ?_
            refine m_geta hC hE hG 18 (by decide) (fun _ => rfl) q774 rfl dX3_match_45 ?_
            refine lv_iload hC.1 hC.2.1 dX3_match_48 (lv_at hl 0 rfl) ?_
            refine m_zld hC hE hG 18 (by decide) rfl (N := 80) rfl (by decide) (j := i32) (v := σ.2 18 i32) (by omega) (rfl) dX3_match_50 ?_
            refine lv_if_eq (tgt := 81) hC.1 hC.2.1 dX3_match_51 (by decide) (fun c_51 => ?_) (fun c_51 => ?_)
            · skip
              refine lv_iinc (v := nI (i32 + 1)) (lv' := [(6, .int (nI (i32 + 1))), (5, .int ((mFn σ (tN (σ.2 2 i2)) (σ.2 10 (3 * n + tN (σ.2 2 i2))) (i32)).2)), (4, .int ((mFn σ (tN (σ.2 2 i2)) (σ.2 10 (3 * n + tN (σ.2 2 i2))) (i32)).1)), (3, .int (σ.2 10 (3 * n + (tN (σ.2 2 i2))))), (2, .int (nI (i2))), (0, .ref (h 25)), (1, .int (nI (n)))]) hC.1 hC.2.1 dX3_match_81 hl (k := 0) rfl (n_inc _) (by decide) rfl (fun ls hl => ?_)
              refine lv_goto (tgt := 32) hC.1 hC.2.1 dX3_match_84 (by decide) ?_
              have hl : lv_has ls 7 [(6, .int (nI (i32 + 1))), (5, .int ((mFn σ (tN (σ.2 2 i2)) (σ.2 10 (3 * n + tN (σ.2 2 i2))) (i32 + 1)).2)), (4, .int ((mFn σ (tN (σ.2 2 i2)) (σ.2 10 (3 * n + tN (σ.2 2 i2))) (i32 + 1)).1)), (3, .int (σ.2 10 (3 * n + (tN (σ.2 2 i2))))), (2, .int (nI (i2))), (0, .ref (h 25)), (1, .int (nI (n)))] := by
                have e5 : (mFn σ (tN (σ.2 2 i2)) (σ.2 10 (3 * n + tN (σ.2 2 i2))) (i32 + 1)).2 = (mFn σ (tN (σ.2 2 i2)) (σ.2 10 (3 * n + tN (σ.2 2 i2))) (i32)).2 := by
                  simp only [mFn, if_neg hz, if_pos c_51, if_true, if_false]
                rw [e5]
                have e4 : (mFn σ (tN (σ.2 2 i2)) (σ.2 10 (3 * n + tN (σ.2 2 i2))) (i32 + 1)).1 = (mFn σ (tN (σ.2 2 i2)) (σ.2 10 (3 * n + tN (σ.2 2 i2))) (i32)).1 := by
                  simp only [mFn, if_neg hz, if_pos c_51, if_true, if_false]
                rw [e4]
                exact lv_sub hl [0, 1, 2, 3, 4, 5, 6] rfl
              exact ih32 (i32 + 1) (by omega) ls (lv_sub hl [0, 1, 2, 3, 4, 5, 6] rfl)
            · skip
              refine lv_aload_n hC.1 hC.2.1 dX3_match_54 rfl (lv_at hl 5 rfl) ?_
              refine m_geta hC hE hG 19 (by decide) (fun _ => rfl) q775 rfl dX3_match_55 ?_
              refine lv_iconst (v := 3) hC.1 hC.2.1 dX3_match_58 (by decide) ?_
              refine lv_iload hC.1 hC.2.1 dX3_match_59 (lv_at hl 0 rfl) ?_
              refine n_mul (a := 3) (b := i32) (d := 3 * i32) hC (by first | rfl | omega) dX3_match_61 ?_
              refine lv_aload_n hC.1 hC.2.1 dX3_match_62 rfl (lv_at hl 5 rfl) ?_
              refine m_geta hC hE hG 2 (by decide) (fun _ => rfl) q758 rfl dX3_match_63 ?_
              refine lv_iload_n hC.1 hC.2.1 dX3_match_66 rfl (lv_at hl 4 rfl) ?_
              refine m_ild hC hE hG 2 (by decide) rfl (N := 3) rfl (by decide) (j := i2) (v := nI (tN (σ.2 2 i2))) (by omega) ((vp_nat (hO i2) (by decide)).1) dX3_match_67 ?_
              refine n_add (a := 3 * i32) (b := tN (σ.2 2 i2)) (d := 3 * i32 + (tN (σ.2 2 i2))) hC (by first | rfl | omega) dX3_match_68 ?_
              refine m_ild hC hE hG 19 (by decide) rfl (N := 240) rfl (by decide) (j := 3 * i32 + (tN (σ.2 2 i2))) (v := σ.2 19 (3 * i32 + (tN (σ.2 2 i2)))) (by omega) (rfl) dX3_match_69 ?_
              refine lv_iload_n hC.1 hC.2.1 dX3_match_70 rfl (lv_at hl 3 rfl) ?_
              refine lv_icmp_ne (tgt := 81) hC.1 hC.2.1 dX3_match_71 (by decide) (fun c_71 => ?_) (fun c_71 => ?_)
              · skip
                refine lv_iinc (v := nI (i32 + 1)) (lv' := [(6, .int (nI (i32 + 1))), (5, .int ((mFn σ (tN (σ.2 2 i2)) (σ.2 10 (3 * n + tN (σ.2 2 i2))) (i32)).2)), (4, .int ((mFn σ (tN (σ.2 2 i2)) (σ.2 10 (3 * n + tN (σ.2 2 i2))) (i32)).1)), (3, .int (σ.2 10 (3 * n + (tN (σ.2 2 i2))))), (2, .int (nI (i2))), (0, .ref (h 25)), (1, .int (nI (n)))]) hC.1 hC.2.1 dX3_match_81 hl (k := 0) rfl (n_inc _) (by decide) rfl (fun ls hl => ?_)
                refine lv_goto (tgt := 32) hC.1 hC.2.1 dX3_match_84 (by decide) ?_
                have hl : lv_has ls 7 [(6, .int (nI (i32 + 1))), (5, .int ((mFn σ (tN (σ.2 2 i2)) (σ.2 10 (3 * n + tN (σ.2 2 i2))) (i32 + 1)).2)), (4, .int ((mFn σ (tN (σ.2 2 i2)) (σ.2 10 (3 * n + tN (σ.2 2 i2))) (i32 + 1)).1)), (3, .int (σ.2 10 (3 * n + (tN (σ.2 2 i2))))), (2, .int (nI (i2))), (0, .ref (h 25)), (1, .int (nI (n)))] := by
                  have e5 : (mFn σ (tN (σ.2 2 i2)) (σ.2 10 (3 * n + tN (σ.2 2 i2))) (i32 + 1)).2 = (mFn σ (tN (σ.2 2 i2)) (σ.2 10 (3 * n + tN (σ.2 2 i2))) (i32)).2 := by
                    simp only [mFn, if_neg hz, if_neg c_51, if_neg c_71, if_true, if_false]
                  rw [e5]
                  have e4 : (mFn σ (tN (σ.2 2 i2)) (σ.2 10 (3 * n + tN (σ.2 2 i2))) (i32 + 1)).1 = (mFn σ (tN (σ.2 2 i2)) (σ.2 10 (3 * n + tN (σ.2 2 i2))) (i32)).1 := by
                    simp only [mFn, if_neg hz, if_neg c_51, if_neg c_71, if_true, if_false]
                  rw [e4]
                  exact lv_sub hl [0, 1, 2, 3, 4, 5, 6] rfl
                exact ih32 (i32 + 1) (by omega) ls (lv_sub hl [0, 1, 2, 3, 4, 5, 6] rfl)
              · skip
                refine lv_iinc (v := (mFn σ (tN (σ.2 2 i2)) (σ.2 10 (3 * n + tN (σ.2 2 i2))) (i32)).1 + 1) (lv' := [(4, .int ((mFn σ (tN (σ.2 2 i2)) (σ.2 10 (3 * n + tN (σ.2 2 i2))) (i32)).1 + 1)), (6, .int (nI (i32))), (5, .int ((mFn σ (tN (σ.2 2 i2)) (σ.2 10 (3 * n + tN (σ.2 2 i2))) (i32)).2)), (3, .int (σ.2 10 (3 * n + (tN (σ.2 2 i2))))), (2, .int (nI (i2))), (0, .ref (h 25)), (1, .int (nI (n)))]) hC.1 hC.2.1 dX3_match_74 hl (k := 2) rfl rfl (by decide) rfl (fun ls hl => ?_)
                refine lv_iload hC.1 hC.2.1 dX3_match_77 (lv_at hl 1 rfl) ?_
                refine lv_istore (lv' := [(5, .int (nI (i32))), (4, .int ((mFn σ (tN (σ.2 2 i2)) (σ.2 10 (3 * n + tN (σ.2 2 i2))) (i32)).1 + 1)), (6, .int (nI (i32))), (3, .int (σ.2 10 (3 * n + (tN (σ.2 2 i2))))), (2, .int (nI (i2))), (0, .ref (h 25)), (1, .int (nI (n)))]) hC.1 hC.2.1 dX3_match_79 hl (by decide) rfl (fun ls hl => ?_)
                refine lv_iinc (v := nI (i32 + 1)) (lv' := [(6, .int (nI (i32 + 1))), (5, .int (nI (i32))), (4, .int ((mFn σ (tN (σ.2 2 i2)) (σ.2 10 (3 * n + tN (σ.2 2 i2))) (i32)).1 + 1)), (3, .int (σ.2 10 (3 * n + (tN (σ.2 2 i2))))), (2, .int (nI (i2))), (0, .ref (h 25)), (1, .int (nI (n)))]) hC.1 hC.2.1 dX3_match_81 hl (k := 2) rfl (n_inc _) (by decide) rfl (fun ls hl => ?_)
                refine lv_goto (tgt := 32) hC.1 hC.2.1 dX3_match_84 (by decide) ?_
                have hl : lv_has ls 7 [(6, .int (nI (i32 + 1))), (5, .int ((mFn σ (tN (σ.2 2 i2)) (σ.2 10 (3 * n + tN (σ.2 2 i2))) (i32 + 1)).2)), (4, .int ((mFn σ (tN (σ.2 2 i2)) (σ.2 10 (3 * n + tN (σ.2 2 i2))) (i32 + 1)).1)), (3, .int (σ.2 10 (3 * n + (tN (σ.2 2 i2))))), (2, .int (nI (i2))), (0, .ref (h 25)), (1, .int (nI (n)))] := by
                  have e5 : (mFn σ (tN (σ.2 2 i2)) (σ.2 10 (3 * n + tN (σ.2 2 i2))) (i32 + 1)).2 = nI (i32) := by
                    simp only [mFn, if_neg hz, if_neg c_51, if_pos c_71, if_true, if_false]
                  rw [e5]
                  have e4 : (mFn σ (tN (σ.2 2 i2)) (σ.2 10 (3 * n + tN (σ.2 2 i2))) (i32 + 1)).1 = (mFn σ (tN (σ.2 2 i2)) (σ.2 10 (3 * n + tN (σ.2 2 i2))) (i32)).1 + 1 := by
                    simp only [mFn, if_neg hz, if_neg c_51, if_pos c_71, if_true, if_false]
                  rw [e4]
                  exact lv_sub hl [0, 1, 2, 3, 4, 5, 6] rfl
                exact ih32 (i32 + 1) (by omega) ls (lv_sub hl [0, 1, 2, 3, 4, 5, 6] rfl)
        exact lp32 80 0 (by omega) ls (lv_sub hl [0, 1, 2, 3, 4, 5, 6] rfl)
  exact lp2 3 0 (by omega) (rfl) ls (lv_sub hl [0, 1, 2] rfl)
set_option maxHeartbeats 4000000 in
theorem mt_doLoad (l : Launch) (K : GK) (A : Nat → Prop) (G0 : GM) (h : Nat → Nat) (σ : MS) (n : Nat) (hn : n < 80) (hw : wF σ) : Met l yX3_doLoad (ws_ yX3_doLoad cX3_doLoad 3 none) ({ frames := 1, cells := 0, slots := 0, locals := 26 }) (va_Pc ([.ref (h 25), .int (nI (n))]) (gW K A (mput K.2.1 h (σ) G0))) (va_Qv (fun u9 : MS => u9 = mDoLoad σ n) (fun u t => gB K A (mput K.2.1 h u G0) t) A) 0 0 (A) := by
  refine g_ofW (cc := cX3_doLoad) (by decide) (own := RX3) rfl (Nat.le_of_ble_eq_true rfl) ?_
  intro p e s m below meth c hC hr hlocks hnm hE hG ls hl
  have hl : lv_has ls 3 [(0, .ref (h 25)), (1, .int (nI (n)))] := hl
  refine lv_aload_n hC.1 hC.2.1 dX3_doLoad_0 rfl (lv_at hl 0 rfl) ?_
  refine m_geta hC hE hG 6 (by decide) (fun _ => rfl) q762 rfl dX3_doLoad_1 ?_
  refine lv_aload_n hC.1 hC.2.1 dX3_doLoad_4 rfl (lv_at hl 0 rfl) ?_
  refine m_geta hC hE hG 8 (by decide) (fun _ => rfl) q764 rfl dX3_doLoad_5 ?_
  refine lv_iload_n hC.1 hC.2.1 dX3_doLoad_8 rfl (lv_at hl 1 rfl) ?_
  refine m_ild hC hE hG 8 (by decide) rfl (N := 80) rfl (by decide) (j := n) (v := σ.2 8 n) (by omega) (rfl) dX3_doLoad_9 ?_
  refine m_zald hC hE hG 6 (by decide) rfl (N := 10) rfl (i := σ.2 8 n) (v := σ.2 6 (tN (σ.2 8 n))) ((hw.2.1 n).2) (rfl) dX3_doLoad_10 ?_
  refine lv_if_eq (tgt := 22) hC.1 hC.2.1 dX3_doLoad_11 (by decide) (fun c_11 => ?_) (fun c_11 => ?_)
  · skip
    refine lv_aload_n hC.1 hC.2.1 dX3_doLoad_22 rfl (lv_at hl 0 rfl) ?_
    refine lv_iload_n hC.1 hC.2.1 dX3_doLoad_23 rfl (lv_at hl 1 rfl) ?_
    refine g_roV (As := [.int (nI (n))]) (rest := []) hC hE hG (mt_match l K A G0 h (σ) n hn hw.2.2.1) (cwV 1 hC.2.2.2.2 (lw_V q879 q881 qs12 q26 q882) rfl rfl rfl (by decide +kernel) ⟨Nat.le_of_ble_eq_true rfl, Nat.le_of_ble_eq_true rfl⟩) (mput_o _ _ _ _) rfl rfl hl.1 rfl (Nat.le_of_ble_eq_true rfl) dX3_doLoad_24 ⟨Nat.le_of_ble_eq_true rfl, Nat.le_of_ble_eq_true rfl⟩ (fun r hr9 => ?_)
    subst hr9
    refine lv_istore_n (lv' := [(2, .int (mMatch σ n)), (0, .ref (h 25)), (1, .int (nI (n)))]) hC.1 hC.2.1 dX3_doLoad_27 rfl hl (by decide) rfl (fun ls hl => ?_)
    refine lv_iload_n hC.1 hC.2.1 dX3_doLoad_28 rfl (lv_at hl 0 rfl) ?_
    refine lv_iconst (v := -1) hC.1 hC.2.1 dX3_doLoad_29 (by decide) ?_
    refine lv_icmp_ne (tgt := 48) hC.1 hC.2.1 dX3_doLoad_30 (by decide) (fun c_30 => ?_) (fun c_30 => ?_)
    · skip
      refine lv_aload_n hC.1 hC.2.1 dX3_doLoad_48 rfl (lv_at hl 1 rfl) ?_
      refine m_geta hC hE hG 12 (by decide) (fun _ => rfl) q768 rfl dX3_doLoad_49 ?_
      refine lv_iload_n hC.1 hC.2.1 dX3_doLoad_52 rfl (lv_at hl 2 rfl) ?_
      refine lv_iload_n hC.1 hC.2.1 dX3_doLoad_53 rfl (lv_at hl 0 rfl) ?_
      refine m_ist hC hE hG 12 (by decide) rfl (N := 80) rfl (by decide) (j := n) (by omega) dX3_doLoad_54 (fun H locs hG => ?_)
      refine lv_iload_n hC.1 hC.2.1 dX3_doLoad_55 rfl (lv_at hl 0 rfl) ?_
      refine lv_bipush (v := -2) hC.1 hC.2.1 dX3_doLoad_56 (by decide) ?_
      refine lv_icmp_eq (tgt := 67) hC.1 hC.2.1 dX3_doLoad_58 (by decide) (fun c_58 => ?_) (fun c_58 => ?_)
      · skip
        exact g_vret hC hG hr (sU (σ) 12 (n) (mMatch σ n)) rfl (by simp only [mDoLoad, if_pos c_11, if_neg c_30, if_pos c_58]) hlocks dX3_doLoad_67
      · skip
        obtain ⟨j, hj, ej⟩ : ∃ j, j < 80 ∧ mMatch σ n = nI j := by
          rcases mMt_range σ n 3 0 with q | q | q
          · exact absurd q c_30
          · exact absurd q c_58
          · exact q
        have ej2 : tN (mMatch σ n) = j := by rw [ej]; exact tN_nI (by omega)
        rw [ej] at hl
        refine lv_aload_n hC.1 hC.2.1 dX3_doLoad_61 rfl (lv_at hl 1 rfl) ?_
        refine lv_iload_n hC.1 hC.2.1 dX3_doLoad_62 rfl (lv_at hl 2 rfl) ?_
        refine lv_iload_n hC.1 hC.2.1 dX3_doLoad_63 rfl (lv_at hl 0 rfl) ?_
        refine g_cVv (As := [.int (nI (n)), .int (nI (j))]) (rest := []) (S := MS) hC hE hG (mt_layOver l K A G0 h (sU (σ) 12 (n) (mMatch σ n)) n j hn hj (hw.1.up (by decide)) (((kp.rf σ).up (by omega)).L hw.2.1)) (cwV 2 hC.2.2.2.2 (lw_V q887 q889 qs14 q26 q890) rfl rfl rfl (by decide +kernel) ⟨Nat.le_of_ble_eq_true rfl, Nat.le_of_ble_eq_true rfl⟩) (mput_o _ _ _ _) rfl rfl hl.1 rfl (Nat.le_of_ble_eq_true rfl) dX3_doLoad_64 ⟨Nat.le_of_ble_eq_true rfl, Nat.le_of_ble_eq_true rfl⟩ (fun u H locs hu9 hG => ?_)
        subst hu9
        exact g_vret hC hG hr (mLay (sU (σ) 12 (n) (mMatch σ n)) n j) rfl (by simp only [mDoLoad, if_pos c_11, if_neg c_30, if_neg c_58, ej2]) hlocks dX3_doLoad_67
    · skip
      refine lv_aload_n hC.1 hC.2.1 dX3_doLoad_33 rfl (lv_at hl 1 rfl) ?_
      refine lv_iload_n hC.1 hC.2.1 dX3_doLoad_34 rfl (lv_at hl 2 rfl) ?_
      refine g_cVv (As := [.int (nI (n))]) (rest := []) (S := MS) hC hE hG (mt_makeRecord l K A G0 h (σ) n hn) (cwV 1 hC.2.2.2.2 (lw_V q883 q885 qs13 q26 q886) rfl rfl rfl (by decide +kernel) ⟨Nat.le_of_ble_eq_true rfl, Nat.le_of_ble_eq_true rfl⟩) (mput_o _ _ _ _) rfl rfl hl.1 rfl (Nat.le_of_ble_eq_true rfl) dX3_doLoad_35 ⟨Nat.le_of_ble_eq_true rfl, Nat.le_of_ble_eq_true rfl⟩ (fun u H locs hu9 hG => ?_)
      subst hu9
      refine lv_aload_n hC.1 hC.2.1 dX3_doLoad_38 rfl (lv_at hl 1 rfl) ?_
      refine m_geta hC hE hG 12 (by decide) (fun _ => rfl) q768 rfl dX3_doLoad_39 ?_
      refine lv_iload_n hC.1 hC.2.1 dX3_doLoad_42 rfl (lv_at hl 2 rfl) ?_
      refine lv_iload_n hC.1 hC.2.1 dX3_doLoad_43 rfl (lv_at hl 2 rfl) ?_
      refine m_ist hC hE hG 12 (by decide) rfl (N := 80) rfl (by decide) (j := n) (by omega) dX3_doLoad_44 (fun H locs hG => ?_)
      refine lv_goto (tgt := 67) hC.1 hC.2.1 dX3_doLoad_45 (by decide) ?_
      exact g_vret hC hG hr (sU (mMake σ n) 12 (n) (nI (n))) rfl (by simp only [mDoLoad, if_pos c_11, if_pos c_30]) hlocks dX3_doLoad_67
  · skip
    refine lv_aload_n hC.1 hC.2.1 dX3_doLoad_14 rfl (lv_at hl 0 rfl) ?_
    refine m_geta hC hE hG 12 (by decide) (fun _ => rfl) q768 rfl dX3_doLoad_15 ?_
    refine lv_iload_n hC.1 hC.2.1 dX3_doLoad_18 rfl (lv_at hl 1 rfl) ?_
    refine lv_iconst (v := -1) hC.1 hC.2.1 dX3_doLoad_19 (by decide) ?_
    refine m_ist hC hE hG 12 (by decide) rfl (N := 80) rfl (by decide) (j := n) (by omega) dX3_doLoad_20 (fun H locs hG => ?_)
    exact g_vret hC hG hr (sU (σ) 12 (n) ((-1))) rfl (by simp only [mDoLoad, if_neg c_11]) hlocks dX3_doLoad_21
set_option maxHeartbeats 4000000 in
theorem mt_doMerge (l : Launch) (K : GK) (A : Nat → Prop) (G0 : GM) (h : Nat → Nat) (σ : MS) (a b : Nat) (ha : a < 80) (hb : b < 80) : Met l yX3_doMerge (ws_ yX3_doMerge cX3_doMerge 5 none) ({ frames := 0, cells := 0, slots := 0, locals := 0 }) (va_Pc ([.ref (h 25), .int (nI (a)), .int (nI (b))]) (gW K A (mput K.2.1 h (σ) G0))) (va_Qv (fun u9 : MS => u9 = mMerge σ a b) (fun u t => gB K A (mput K.2.1 h u G0) t) A) 0 0 (A) := by
  refine g_ofW (cc := cX3_doMerge) (by decide) (own := RX3) rfl (Nat.le_of_ble_eq_true rfl) ?_
  intro p e s m below meth c hC hr hlocks hnm hE hG ls hl
  have hl : lv_has ls 5 [(0, .ref (h 25)), (1, .int (nI (a))), (2, .int (nI (b)))] := hl
  refine lv_aload_n hC.1 hC.2.1 dX3_doMerge_0 rfl (lv_at hl 0 rfl) ?_
  refine m_geta hC hE hG 23 (by decide) (fun _ => rfl) q779 rfl dX3_doMerge_1 ?_
  refine lv_iload_n hC.1 hC.2.1 dX3_doMerge_4 rfl (lv_at hl 2 rfl) ?_
  refine lv_dup2_11 hC.1 hC.2.1 dX3_doMerge_5 rfl rfl ?_
  refine m_ild hC hE hG 23 (by decide) rfl (N := 80) rfl (by decide) (j := b) (v := σ.2 23 b) (by omega) (rfl) dX3_doMerge_6 ?_
  refine lv_aload_n hC.1 hC.2.1 dX3_doMerge_7 rfl (lv_at hl 0 rfl) ?_
  refine m_geta hC hE hG 23 (by decide) (fun _ => rfl) q779 rfl dX3_doMerge_8 ?_
  refine lv_iload_n hC.1 hC.2.1 dX3_doMerge_11 rfl (lv_at hl 1 rfl) ?_
  refine m_ild hC hE hG 23 (by decide) rfl (N := 80) rfl (by decide) (j := a) (v := σ.2 23 a) (by omega) (rfl) dX3_doMerge_12 ?_
  refine lv_iadd hC.1 hC.2.1 dX3_doMerge_13 ?_
  refine m_ist hC hE hG 23 (by decide) rfl (N := 80) rfl (by decide) (j := b) (by omega) dX3_doMerge_14 (fun H locs hG => ?_)
  refine lv_iconst (v := 0) hC.1 hC.2.1 dX3_doMerge_15 (by decide) ?_
  refine lv_istore_n (lv' := [(3, .int ((0))), (0, .ref (h 25)), (1, .int (nI (a))), (2, .int (nI (b)))]) hC.1 hC.2.1 dX3_doMerge_16 rfl hl (by decide) rfl (fun ls hl => ?_)
  have lp17 : ∀ (nn i17 : Nat), i17 + nn = 3 → ∀ (H : Heap) (locs : List Loc), gG K A s.heap (mput K.2.1 h (mGK a b (i17) (sU σ 23 b (σ.2 23 b + σ.2 23 a))) G0) H locs → ∀ ls : Array Slot, lv_has ls 5 [(3, .int (nI (i17))), (0, .ref (h 25)), (1, .int (nI (a))), (2, .int (nI (b)))] → W p l e ({ frames := 0, cells := 0, slots := 0, locals := 0 }) s m ([.ref (h 25), .int (nI (a)), .int (nI (b))] : List Value).toArray below meth c H locs 0 0 (MQ below (va_Qv (fun u9 : MS => u9 = mMerge σ a b) (fun u t => gB K A (mput K.2.1 h u G0) t) A) ([.ref (h 25), .int (nI (a)), .int (nI (b))] : List Value).toArray s 0 0 (A)) (F0 m 17 ls []) := by
    intro nn
    induction nn with
    | zero =>
      intro i17 hi17 H locs hG ls hl
      obtain rfl : 3 = i17 := by omega
      refine lv_iload_n hC.1 hC.2.1 dX3_doMerge_17 rfl (lv_at hl 0 rfl) ?_
      refine lv_iconst (v := 3) hC.1 hC.2.1 dX3_doMerge_18 (by decide) ?_
      refine n_ge (a := 3) (b := 3) hC (by omega) (by omega) (tgt := 73) dX3_doMerge_19 (by decide) (fun c_19 => ?_) (fun c_19 => absurd c_19 (by omega))
      refine lv_iconst (v := 0) hC.1 hC.2.1 dX3_doMerge_73 (by decide) ?_
      refine lv_istore_n (lv' := [(3, .int ((0))), (0, .ref (h 25)), (1, .int (nI (a))), (2, .int (nI (b)))]) hC.1 hC.2.1 dX3_doMerge_74 rfl hl (by decide) rfl (fun ls hl => ?_)
      have lp75 : ∀ (nn i75 : Nat), i75 + nn = 4 → ∀ (H : Heap) (locs : List Loc), gG K A s.heap (mput K.2.1 h (mGF a b (i75) (mGK a b 3 (sU σ 23 b (σ.2 23 b + σ.2 23 a)))) G0) H locs → ∀ ls : Array Slot, lv_has ls 5 [(3, .int (nI (i75))), (0, .ref (h 25)), (1, .int (nI (a))), (2, .int (nI (b)))] → W p l e ({ frames := 0, cells := 0, slots := 0, locals := 0 }) s m ([.ref (h 25), .int (nI (a)), .int (nI (b))] : List Value).toArray below meth c H locs 0 0 (MQ below (va_Qv (fun u9 : MS => u9 = mMerge σ a b) (fun u t => gB K A (mput K.2.1 h u G0) t) A) ([.ref (h 25), .int (nI (a)), .int (nI (b))] : List Value).toArray s 0 0 (A)) (F0 m 75 ls []) := by
        intro nn
        induction nn with
        | zero =>
          intro i75 hi75 H locs hG ls hl
          obtain rfl : 4 = i75 := by omega
          refine lv_iload_n hC.1 hC.2.1 dX3_doMerge_75 rfl (lv_at hl 0 rfl) ?_
          refine lv_iconst (v := 4) hC.1 hC.2.1 dX3_doMerge_76 (by decide) ?_
          refine n_ge (a := 4) (b := 4) hC (by omega) (by omega) (tgt := 138) dX3_doMerge_77 (by decide) (fun c_77 => ?_) (fun c_77 => absurd c_77 (by omega))
          refine lv_aload_n hC.1 hC.2.1 dX3_doMerge_138 rfl (lv_at hl 1 rfl) ?_
          refine m_geta hC hE hG 18 (by decide) (fun _ => rfl) q774 rfl dX3_doMerge_139 ?_
          refine lv_iload_n hC.1 hC.2.1 dX3_doMerge_142 rfl (lv_at hl 2 rfl) ?_
          refine lv_iconst (v := 0) hC.1 hC.2.1 dX3_doMerge_143 (by decide) ?_
          refine m_zst hC hE hG 18 (by decide) rfl (N := 80) rfl (by decide) (j := a) (by omega) (rfl) dX3_doMerge_144 (fun H locs hG => ?_)
          exact g_vret hC hG hr (sU (mGF a b (4) (mGK a b 3 (sU σ 23 b (σ.2 23 b + σ.2 23 a)))) 18 (a) ((0))) rfl (by rfl) hlocks dX3_doMerge_145
        | succ nn ih75 =>
          intro i75 hi75 H locs hG ls hl
          have hlt75 : i75 < 4 := by omega
          refine lv_iload_n hC.1 hC.2.1 dX3_doMerge_75 rfl (lv_at hl 0 rfl) ?_
          refine lv_iconst (v := 4) hC.1 hC.2.1 dX3_doMerge_76 (by decide) ?_
          refine n_ge (a := i75) (b := 4) hC (by omega) (by omega) (tgt := 138) dX3_doMerge_77 (by decide) (fun c_77 => absurd c_77 (by omega)) (fun c_77 => ?_)
          refine lv_iconst (v := 4) hC.1 hC.2.1 dX3_doMerge_80 (by decide) ?_
          refine lv_iload_n hC.1 hC.2.1 dX3_doMerge_81 rfl (lv_at hl 3 rfl) ?_
          refine n_mul (a := 4) (b := b) (d := 4 * b) hC (by first | rfl | omega) dX3_doMerge_82 ?_
          refine lv_iload_n hC.1 hC.2.1 dX3_doMerge_83 rfl (lv_at hl 0 rfl) ?_
          refine n_add (a := 4 * b) (b := i75) (d := 4 * b + i75) hC (by first | rfl | omega) dX3_doMerge_84 ?_
          refine lv_istore (lv' := [(4, .int (nI (4 * b + i75))), (3, .int (nI (i75))), (0, .ref (h 25)), (1, .int (nI (a))), (2, .int (nI (b)))]) hC.1 hC.2.1 dX3_doMerge_85 hl (by decide) rfl (fun ls hl => ?_)
          refine lv_aload_n hC.1 hC.2.1 dX3_doMerge_87 rfl (lv_at hl 2 rfl) ?_
          refine m_geta hC hE hG 20 (by decide) (fun _ => rfl) q776 rfl dX3_doMerge_88 ?_
          refine lv_iload hC.1 hC.2.1 dX3_doMerge_91 (lv_at hl 0 rfl) ?_
          refine m_ild hC hE hG 20 (by decide) rfl (N := 320) rfl (by decide) (j := 4 * b + i75) (v := (mGF a b (i75) (mGK a b 3 (sU σ 23 b (σ.2 23 b + σ.2 23 a)))).2 20 (4 * b + i75)) (by omega) (rfl) dX3_doMerge_93 ?_
          refine lv_iconst (v := -1) hC.1 hC.2.1 dX3_doMerge_94 (by decide) ?_
          refine lv_icmp_ne (tgt := 132) hC.1 hC.2.1 dX3_doMerge_95 (by decide) (fun c_95 => ?_) (fun c_95 => ?_)
          · skip
            refine lv_iinc (v := nI (i75 + 1)) (lv' := [(3, .int (nI (i75 + 1))), (4, .int (nI (4 * b + i75))), (0, .ref (h 25)), (1, .int (nI (a))), (2, .int (nI (b)))]) hC.1 hC.2.1 dX3_doMerge_132 hl (k := 1) rfl (n_inc _) (by decide) rfl (fun ls hl => ?_)
            refine lv_goto (tgt := 75) hC.1 hC.2.1 dX3_doMerge_135 (by decide) ?_
            have hσ : mGF a b (i75) (mGK a b 3 (sU σ 23 b (σ.2 23 b + σ.2 23 a))) = mGF a b (i75 + 1) (mGK a b 3 (sU σ 23 b (σ.2 23 b + σ.2 23 a))) := by
              simp only [mGF, mGFs, if_neg c_95, if_true, if_false]
            exact ih75 (i75 + 1) (by omega) _ _ (hG.eq (by rw [hσ])) ls (lv_sub hl [0, 2, 3, 4] rfl)
          · skip
            refine lv_aload_n hC.1 hC.2.1 dX3_doMerge_98 rfl (lv_at hl 2 rfl) ?_
            refine m_geta hC hE hG 20 (by decide) (fun _ => rfl) q776 rfl dX3_doMerge_99 ?_
            refine lv_iload hC.1 hC.2.1 dX3_doMerge_102 (lv_at hl 0 rfl) ?_
            refine lv_aload_n hC.1 hC.2.1 dX3_doMerge_104 rfl (lv_at hl 2 rfl) ?_
            refine m_geta hC hE hG 20 (by decide) (fun _ => rfl) q776 rfl dX3_doMerge_105 ?_
            refine lv_iconst (v := 4) hC.1 hC.2.1 dX3_doMerge_108 (by decide) ?_
            refine lv_iload_n hC.1 hC.2.1 dX3_doMerge_109 rfl (lv_at hl 3 rfl) ?_
            refine n_mul (a := 4) (b := a) (d := 4 * a) hC (by first | rfl | omega) dX3_doMerge_110 ?_
            refine lv_iload_n hC.1 hC.2.1 dX3_doMerge_111 rfl (lv_at hl 1 rfl) ?_
            refine n_add (a := 4 * a) (b := i75) (d := 4 * a + i75) hC (by first | rfl | omega) dX3_doMerge_112 ?_
            refine m_ild hC hE hG 20 (by decide) rfl (N := 320) rfl (by decide) (j := 4 * a + i75) (v := (mGF a b (i75) (mGK a b 3 (sU σ 23 b (σ.2 23 b + σ.2 23 a)))).2 20 (4 * a + i75)) (by omega) (rfl) dX3_doMerge_113 ?_
            refine m_ist hC hE hG 20 (by decide) rfl (N := 320) rfl (by decide) (j := 4 * b + i75) (by omega) dX3_doMerge_114 (fun H locs hG => ?_)
            refine lv_aload_n hC.1 hC.2.1 dX3_doMerge_115 rfl (lv_at hl 2 rfl) ?_
            refine m_geta hC hE hG 21 (by decide) (fun _ => rfl) q777 rfl dX3_doMerge_116 ?_
            refine lv_iload hC.1 hC.2.1 dX3_doMerge_119 (lv_at hl 0 rfl) ?_
            refine lv_aload_n hC.1 hC.2.1 dX3_doMerge_121 rfl (lv_at hl 2 rfl) ?_
            refine m_geta hC hE hG 21 (by decide) (fun _ => rfl) q777 rfl dX3_doMerge_122 ?_
            refine lv_iconst (v := 4) hC.1 hC.2.1 dX3_doMerge_125 (by decide) ?_
            refine lv_iload_n hC.1 hC.2.1 dX3_doMerge_126 rfl (lv_at hl 3 rfl) ?_
            refine n_mul (a := 4) (b := a) (d := 4 * a) hC (by first | rfl | omega) dX3_doMerge_127 ?_
            refine lv_iload_n hC.1 hC.2.1 dX3_doMerge_128 rfl (lv_at hl 1 rfl) ?_
            refine n_add (a := 4 * a) (b := i75) (d := 4 * a + i75) hC (by first | rfl | omega) dX3_doMerge_129 ?_
            refine m_ild hC hE hG 21 (by decide) rfl (N := 320) rfl (by decide) (j := 4 * a + i75) (v := (mGF a b (i75) (mGK a b 3 (sU σ 23 b (σ.2 23 b + σ.2 23 a)))).2 21 (4 * a + i75)) (by omega) (rfl) dX3_doMerge_130 ?_
            refine m_ist hC hE hG 21 (by decide) rfl (N := 320) rfl (by decide) (j := 4 * b + i75) (by omega) dX3_doMerge_131 (fun H locs hG => ?_)
            refine lv_iinc (v := nI (i75 + 1)) (lv' := [(3, .int (nI (i75 + 1))), (4, .int (nI (4 * b + i75))), (0, .ref (h 25)), (1, .int (nI (a))), (2, .int (nI (b)))]) hC.1 hC.2.1 dX3_doMerge_132 hl (k := 1) rfl (n_inc _) (by decide) rfl (fun ls hl => ?_)
            refine lv_goto (tgt := 75) hC.1 hC.2.1 dX3_doMerge_135 (by decide) ?_
            have hσ : sU (sU (mGF a b (i75) (mGK a b 3 (sU σ 23 b (σ.2 23 b + σ.2 23 a)))) 20 (4 * b + i75) ((mGF a b (i75) (mGK a b 3 (sU σ 23 b (σ.2 23 b + σ.2 23 a)))).2 20 (4 * a + i75))) 21 (4 * b + i75) ((mGF a b (i75) (mGK a b 3 (sU σ 23 b (σ.2 23 b + σ.2 23 a)))).2 21 (4 * a + i75)) = mGF a b (i75 + 1) (mGK a b 3 (sU σ 23 b (σ.2 23 b + σ.2 23 a))) := by
              simp only [mGF, mGFs, if_pos c_95, if_true, if_false]
            exact ih75 (i75 + 1) (by omega) _ _ (hG.eq (by rw [hσ])) ls (lv_sub hl [0, 2, 3, 4] rfl)
      exact lp75 4 0 (by omega) _ _ hG ls (lv_sub hl [0, 1, 2, 3] rfl)
    | succ nn ih17 =>
      intro i17 hi17 H locs hG ls hl
      have hlt17 : i17 < 3 := by omega
      refine lv_iload_n hC.1 hC.2.1 dX3_doMerge_17 rfl (lv_at hl 0 rfl) ?_
      refine lv_iconst (v := 3) hC.1 hC.2.1 dX3_doMerge_18 (by decide) ?_
      refine n_ge (a := i17) (b := 3) hC (by omega) (by omega) (tgt := 73) dX3_doMerge_19 (by decide) (fun c_19 => absurd c_19 (by omega)) (fun c_19 => ?_)
      refine lv_iconst (v := 3) hC.1 hC.2.1 dX3_doMerge_22 (by decide) ?_
      refine lv_iload_n hC.1 hC.2.1 dX3_doMerge_23 rfl (lv_at hl 3 rfl) ?_
      refine n_mul (a := 3) (b := b) (d := 3 * b) hC (by first | rfl | omega) dX3_doMerge_24 ?_
      refine lv_iload_n hC.1 hC.2.1 dX3_doMerge_25 rfl (lv_at hl 0 rfl) ?_
      refine n_add (a := 3 * b) (b := i17) (d := 3 * b + i17) hC (by first | rfl | omega) dX3_doMerge_26 ?_
      refine lv_istore (lv' := [(4, .int (nI (3 * b + i17))), (3, .int (nI (i17))), (0, .ref (h 25)), (1, .int (nI (a))), (2, .int (nI (b)))]) hC.1 hC.2.1 dX3_doMerge_27 hl (by decide) rfl (fun ls hl => ?_)
      refine lv_aload_n hC.1 hC.2.1 dX3_doMerge_29 rfl (lv_at hl 2 rfl) ?_
      refine m_geta hC hE hG 19 (by decide) (fun _ => rfl) q775 rfl dX3_doMerge_30 ?_
      refine lv_iload hC.1 hC.2.1 dX3_doMerge_33 (lv_at hl 0 rfl) ?_
      refine lv_aload_n hC.1 hC.2.1 dX3_doMerge_35 rfl (lv_at hl 2 rfl) ?_
      refine m_geta hC hE hG 19 (by decide) (fun _ => rfl) q775 rfl dX3_doMerge_36 ?_
      refine lv_iload hC.1 hC.2.1 dX3_doMerge_39 (lv_at hl 0 rfl) ?_
      refine m_ild hC hE hG 19 (by decide) rfl (N := 240) rfl (by decide) (j := 3 * b + i17) (v := (mGK a b (i17) (sU σ 23 b (σ.2 23 b + σ.2 23 a))).2 19 (3 * b + i17)) (by omega) (rfl) dX3_doMerge_41 ?_
      refine lv_iconst (v := -1) hC.1 hC.2.1 dX3_doMerge_42 (by decide) ?_
      refine lv_icmp_ne (tgt := 59) hC.1 hC.2.1 dX3_doMerge_43 (by decide) (fun c_43 => ?_) (fun c_43 => ?_)
      · skip
        refine lv_aload_n hC.1 hC.2.1 dX3_doMerge_59 rfl (lv_at hl 2 rfl) ?_
        refine m_geta hC hE hG 19 (by decide) (fun _ => rfl) q775 rfl dX3_doMerge_60 ?_
        refine lv_iload hC.1 hC.2.1 dX3_doMerge_63 (lv_at hl 0 rfl) ?_
        refine m_ild hC hE hG 19 (by decide) rfl (N := 240) rfl (by decide) (j := 3 * b + i17) (v := (mGK a b (i17) (sU σ 23 b (σ.2 23 b + σ.2 23 a))).2 19 (3 * b + i17)) (by omega) (rfl) dX3_doMerge_65 ?_
        refine m_ist hC hE hG 19 (by decide) rfl (N := 240) rfl (by decide) (j := 3 * b + i17) (by omega) dX3_doMerge_66 (fun H locs hG => ?_)
        refine lv_iinc (v := nI (i17 + 1)) (lv' := [(3, .int (nI (i17 + 1))), (4, .int (nI (3 * b + i17))), (0, .ref (h 25)), (1, .int (nI (a))), (2, .int (nI (b)))]) hC.1 hC.2.1 dX3_doMerge_67 hl (k := 1) rfl (n_inc _) (by decide) rfl (fun ls hl => ?_)
        refine lv_goto (tgt := 17) hC.1 hC.2.1 dX3_doMerge_70 (by decide) ?_
        have hσ : sU (mGK a b (i17) (sU σ 23 b (σ.2 23 b + σ.2 23 a))) 19 (3 * b + i17) ((mGK a b (i17) (sU σ 23 b (σ.2 23 b + σ.2 23 a))).2 19 (3 * b + i17)) = mGK a b (i17 + 1) (sU σ 23 b (σ.2 23 b + σ.2 23 a)) := by
          simp only [mGK, mGKs, if_neg c_43, if_true, if_false]
        exact ih17 (i17 + 1) (by omega) _ _ (hG.eq (by rw [hσ])) ls (lv_sub hl [0, 2, 3, 4] rfl)
      · skip
        refine lv_aload_n hC.1 hC.2.1 dX3_doMerge_46 rfl (lv_at hl 2 rfl) ?_
        refine m_geta hC hE hG 19 (by decide) (fun _ => rfl) q775 rfl dX3_doMerge_47 ?_
        refine lv_iconst (v := 3) hC.1 hC.2.1 dX3_doMerge_50 (by decide) ?_
        refine lv_iload_n hC.1 hC.2.1 dX3_doMerge_51 rfl (lv_at hl 3 rfl) ?_
        refine n_mul (a := 3) (b := a) (d := 3 * a) hC (by first | rfl | omega) dX3_doMerge_52 ?_
        refine lv_iload_n hC.1 hC.2.1 dX3_doMerge_53 rfl (lv_at hl 1 rfl) ?_
        refine n_add (a := 3 * a) (b := i17) (d := 3 * a + i17) hC (by first | rfl | omega) dX3_doMerge_54 ?_
        refine m_ild hC hE hG 19 (by decide) rfl (N := 240) rfl (by decide) (j := 3 * a + i17) (v := (mGK a b (i17) (sU σ 23 b (σ.2 23 b + σ.2 23 a))).2 19 (3 * a + i17)) (by omega) (rfl) dX3_doMerge_55 ?_
        refine lv_goto (tgt := 66) hC.1 hC.2.1 dX3_doMerge_56 (by decide) ?_
        refine m_ist hC hE hG 19 (by decide) rfl (N := 240) rfl (by decide) (j := 3 * b + i17) (by omega) dX3_doMerge_66 (fun H locs hG => ?_)
        refine lv_iinc (v := nI (i17 + 1)) (lv' := [(3, .int (nI (i17 + 1))), (4, .int (nI (3 * b + i17))), (0, .ref (h 25)), (1, .int (nI (a))), (2, .int (nI (b)))]) hC.1 hC.2.1 dX3_doMerge_67 hl (k := 1) rfl (n_inc _) (by decide) rfl (fun ls hl => ?_)
        refine lv_goto (tgt := 17) hC.1 hC.2.1 dX3_doMerge_70 (by decide) ?_
        have hσ : sU (mGK a b (i17) (sU σ 23 b (σ.2 23 b + σ.2 23 a))) 19 (3 * b + i17) ((mGK a b (i17) (sU σ 23 b (σ.2 23 b + σ.2 23 a))).2 19 (3 * a + i17)) = mGK a b (i17 + 1) (sU σ 23 b (σ.2 23 b + σ.2 23 a)) := by
          simp only [mGK, mGKs, if_pos c_43, if_true, if_false]
        exact ih17 (i17 + 1) (by omega) _ _ (hG.eq (by rw [hσ])) ls (lv_sub hl [0, 2, 3, 4] rfl)
  exact lp17 3 0 (by omega) _ _ hG ls (lv_sub hl [0, 1, 2, 3] rfl)
set_option maxHeartbeats 4000000 in
theorem mt_perform (l : Launch) (K : GK) (A : Nat → Prop) (G0 : GM) (h : Nat → Nat) (σ : MS) (t : Nat) (ht : t < 180) (hw : wF σ) : Met l yX3_perform (ws_ yX3_perform cX3_perform 4 none) ({ frames := 2, cells := 0, slots := 0, locals := 48 }) (va_Pc ([.ref (h 25), .int (nI (t))]) (gW K A (mput K.2.1 h (σ) G0))) (va_Qv (fun u9 : MS => u9 = mPerf σ t) (fun u t => gB K A (mput K.2.1 h u G0) t) A) 0 0 (A) := by
  refine g_ofW (cc := cX3_perform) (by decide) (own := RX3) rfl (Nat.le_of_ble_eq_true rfl) ?_
  intro p e s m below meth c hC hr hlocks hnm hE hG ls hl
  have hl : lv_has ls 4 [(0, .ref (h 25)), (1, .int (nI (t)))] := hl
  have h16 := (vp_nat ((hw.2.2.2 t).1) (by decide)).2
  have h17 := (vp_nat ((hw.2.2.2 t).2.1) (by decide)).2
  refine lv_aload_n hC.1 hC.2.1 dX3_perform_0 rfl (lv_at hl 0 rfl) ?_
  refine m_geta hC hE hG 16 (by decide) (fun _ => rfl) q772 rfl dX3_perform_1 ?_
  refine lv_iload_n hC.1 hC.2.1 dX3_perform_4 rfl (lv_at hl 1 rfl) ?_
  refine m_ild hC hE hG 16 (by decide) rfl (N := 180) rfl (by decide) (j := t) (v := nI (tN (σ.2 16 t))) (by omega) ((vp_nat ((hw.2.2.2 t).1) (by decide)).1) dX3_perform_5 ?_
  refine lv_istore_n (lv' := [(2, .int (nI (tN (σ.2 16 t)))), (0, .ref (h 25)), (1, .int (nI (t)))]) hC.1 hC.2.1 dX3_perform_6 rfl hl (by decide) rfl (fun ls hl => ?_)
  refine lv_aload_n hC.1 hC.2.1 dX3_perform_7 rfl (lv_at hl 1 rfl) ?_
  refine m_geta hC hE hG 17 (by decide) (fun _ => rfl) q773 rfl dX3_perform_8 ?_
  refine lv_iload_n hC.1 hC.2.1 dX3_perform_11 rfl (lv_at hl 2 rfl) ?_
  refine m_ild hC hE hG 17 (by decide) rfl (N := 180) rfl (by decide) (j := t) (v := nI (tN (σ.2 17 t))) (by omega) ((vp_nat ((hw.2.2.2 t).2.1) (by decide)).1) dX3_perform_12 ?_
  refine lv_istore_n (lv' := [(3, .int (nI (tN (σ.2 17 t)))), (2, .int (nI (tN (σ.2 16 t)))), (0, .ref (h 25)), (1, .int (nI (t)))]) hC.1 hC.2.1 dX3_perform_13 rfl hl (by decide) rfl (fun ls hl => ?_)
  refine lv_aload_n hC.1 hC.2.1 dX3_perform_14 rfl (lv_at hl 2 rfl) ?_
  refine m_geta hC hE hG 15 (by decide) (fun _ => rfl) q771 rfl dX3_perform_15 ?_
  refine lv_iload_n hC.1 hC.2.1 dX3_perform_18 rfl (lv_at hl 3 rfl) ?_
  refine m_ild hC hE hG 15 (by decide) rfl (N := 180) rfl (by decide) (j := t) (v := σ.2 15 t) (by omega) (rfl) dX3_perform_19 ?_
  refine lv_if_ne (tgt := 31) hC.1 hC.2.1 dX3_perform_20 (by decide) (fun c_20 => ?_) (fun c_20 => ?_)
  · skip
    refine lv_aload_n hC.1 hC.2.1 dX3_perform_31 rfl (lv_at hl 2 rfl) ?_
    refine m_geta hC hE hG 18 (by decide) (fun _ => rfl) q774 rfl dX3_perform_32 ?_
    refine lv_iload_n hC.1 hC.2.1 dX3_perform_35 rfl (lv_at hl 1 rfl) ?_
    refine m_zld hC hE hG 18 (by decide) rfl (N := 80) rfl (by decide) (j := tN (σ.2 16 t)) (v := σ.2 18 (tN (σ.2 16 t))) (by omega) (rfl) dX3_perform_36 ?_
    refine lv_if_eq (tgt := 63) hC.1 hC.2.1 dX3_perform_37 (by decide) (fun c_37 => ?_) (fun c_37 => ?_)
    · skip
      refine lv_aload_n hC.1 hC.2.1 dX3_perform_63 rfl (lv_at hl 2 rfl) ?_
      refine m_geta hC hE hG 18 (by decide) (fun _ => rfl) q774 rfl dX3_perform_64 ?_
      refine lv_iload_n hC.1 hC.2.1 dX3_perform_67 rfl (lv_at hl 1 rfl) ?_
      refine m_zld hC hE hG 18 (by decide) rfl (N := 80) rfl (by decide) (j := tN (σ.2 16 t)) (v := σ.2 18 (tN (σ.2 16 t))) (by omega) (rfl) dX3_perform_68 ?_
      refine lv_if_eq (tgt := 100) hC.1 hC.2.1 dX3_perform_69 (by decide) (fun c_69 => ?_) (fun c_69 => absurd c_37 c_69)
      refine lv_aload_n hC.1 hC.2.1 dX3_perform_100 rfl (lv_at hl 2 rfl) ?_
      refine m_geta hC hE hG 18 (by decide) (fun _ => rfl) q774 rfl dX3_perform_101 ?_
      refine lv_iload_n hC.1 hC.2.1 dX3_perform_104 rfl (lv_at hl 1 rfl) ?_
      refine m_zld hC hE hG 18 (by decide) rfl (N := 80) rfl (by decide) (j := tN (σ.2 16 t)) (v := σ.2 18 (tN (σ.2 16 t))) (by omega) (rfl) dX3_perform_105 ?_
      refine lv_if_eq (tgt := 134) hC.1 hC.2.1 dX3_perform_106 (by decide) (fun c_106 => ?_) (fun c_106 => absurd c_37 c_106)
      exact g_vret hC hG hr (σ) rfl (by simp only [mPerf, if_neg c_20, if_pos c_37, if_true, if_false]) hlocks dX3_perform_134
    · skip
      refine lv_aload_n hC.1 hC.2.1 dX3_perform_40 rfl (lv_at hl 2 rfl) ?_
      refine m_geta hC hE hG 15 (by decide) (fun _ => rfl) q771 rfl dX3_perform_41 ?_
      refine lv_iload_n hC.1 hC.2.1 dX3_perform_44 rfl (lv_at hl 3 rfl) ?_
      refine m_ild hC hE hG 15 (by decide) rfl (N := 180) rfl (by decide) (j := t) (v := σ.2 15 t) (by omega) (rfl) dX3_perform_45 ?_
      refine lv_iconst (v := 3) hC.1 hC.2.1 dX3_perform_46 (by decide) ?_
      refine lv_icmp_ne (tgt := 63) hC.1 hC.2.1 dX3_perform_47 (by decide) (fun c_47 => ?_) (fun c_47 => ?_)
      · skip
        refine lv_aload_n hC.1 hC.2.1 dX3_perform_63 rfl (lv_at hl 2 rfl) ?_
        refine m_geta hC hE hG 18 (by decide) (fun _ => rfl) q774 rfl dX3_perform_64 ?_
        refine lv_iload_n hC.1 hC.2.1 dX3_perform_67 rfl (lv_at hl 1 rfl) ?_
        refine m_zld hC hE hG 18 (by decide) rfl (N := 80) rfl (by decide) (j := tN (σ.2 16 t)) (v := σ.2 18 (tN (σ.2 16 t))) (by omega) (rfl) dX3_perform_68 ?_
        refine lv_if_eq (tgt := 100) hC.1 hC.2.1 dX3_perform_69 (by decide) (fun c_69 => absurd c_69 c_37) (fun c_69 => ?_)
        refine lv_aload_n hC.1 hC.2.1 dX3_perform_72 rfl (lv_at hl 2 rfl) ?_
        refine m_geta hC hE hG 15 (by decide) (fun _ => rfl) q771 rfl dX3_perform_73 ?_
        refine lv_iload_n hC.1 hC.2.1 dX3_perform_76 rfl (lv_at hl 3 rfl) ?_
        refine m_ild hC hE hG 15 (by decide) rfl (N := 180) rfl (by decide) (j := t) (v := σ.2 15 t) (by omega) (rfl) dX3_perform_77 ?_
        refine lv_iconst (v := 4) hC.1 hC.2.1 dX3_perform_78 (by decide) ?_
        refine lv_icmp_ne (tgt := 100) hC.1 hC.2.1 dX3_perform_79 (by decide) (fun c_79 => ?_) (fun c_79 => ?_)
        · skip
          refine lv_aload_n hC.1 hC.2.1 dX3_perform_100 rfl (lv_at hl 2 rfl) ?_
          refine m_geta hC hE hG 18 (by decide) (fun _ => rfl) q774 rfl dX3_perform_101 ?_
          refine lv_iload_n hC.1 hC.2.1 dX3_perform_104 rfl (lv_at hl 1 rfl) ?_
          refine m_zld hC hE hG 18 (by decide) rfl (N := 80) rfl (by decide) (j := tN (σ.2 16 t)) (v := σ.2 18 (tN (σ.2 16 t))) (by omega) (rfl) dX3_perform_105 ?_
          refine lv_if_eq (tgt := 134) hC.1 hC.2.1 dX3_perform_106 (by decide) (fun c_106 => absurd c_106 c_37) (fun c_106 => ?_)
          have h4 := (vp_nat ((hw.2.2.2 t).2.2 c_20 c_47 c_79) (by decide)).2
          refine lv_aload_n hC.1 hC.2.1 dX3_perform_109 rfl (lv_at hl 2 rfl) ?_
          refine m_geta hC hE hG 22 (by decide) (fun _ => rfl) q778 rfl dX3_perform_110 ?_
          refine lv_iconst (v := 4) hC.1 hC.2.1 dX3_perform_113 (by decide) ?_
          refine lv_iload_n hC.1 hC.2.1 dX3_perform_114 rfl (lv_at hl 1 rfl) ?_
          refine n_mul (a := 4) (b := tN (σ.2 16 t)) (d := 4 * (tN (σ.2 16 t))) hC (by first | rfl | omega) dX3_perform_115 ?_
          refine lv_iload_n hC.1 hC.2.1 dX3_perform_116 rfl (lv_at hl 0 rfl) ?_
          refine n_add (a := 4 * (tN (σ.2 16 t))) (b := tN (σ.2 17 t)) (d := 4 * (tN (σ.2 16 t)) + (tN (σ.2 17 t))) hC (by first | rfl | omega) dX3_perform_117 ?_
          refine lv_aload_n hC.1 hC.2.1 dX3_perform_118 rfl (lv_at hl 2 rfl) ?_
          refine m_geta hC hE hG 15 (by decide) (fun _ => rfl) q771 rfl dX3_perform_119 ?_
          refine lv_iload_n hC.1 hC.2.1 dX3_perform_122 rfl (lv_at hl 3 rfl) ?_
          refine m_ild hC hE hG 15 (by decide) rfl (N := 180) rfl (by decide) (j := t) (v := σ.2 15 t) (by omega) (rfl) dX3_perform_123 ?_
          refine lv_iconst (v := 1) hC.1 hC.2.1 dX3_perform_124 (by decide) ?_
          refine lv_icmp_ne (tgt := 132) hC.1 hC.2.1 dX3_perform_125 (by decide) (fun c_125 => ?_) (fun c_125 => ?_)
          · skip
            refine lv_iconst (v := 0) hC.1 hC.2.1 dX3_perform_132 (by decide) ?_
            refine m_zst hC hE hG 22 (by decide) rfl (N := 320) rfl (by decide) (j := 4 * (tN (σ.2 16 t)) + (tN (σ.2 17 t))) (by omega) (rfl) dX3_perform_133 (fun H locs hG => ?_)
            exact g_vret hC hG hr (sU (σ) 22 (4 * (tN (σ.2 16 t)) + (tN (σ.2 17 t))) ((0))) rfl (by simp only [mPerf, if_neg c_20, if_neg c_37, if_neg c_47, if_neg c_79, if_neg c_125, if_true, if_false]) hlocks dX3_perform_134
          · skip
            refine lv_iconst (v := 1) hC.1 hC.2.1 dX3_perform_128 (by decide) ?_
            refine lv_goto (tgt := 133) hC.1 hC.2.1 dX3_perform_129 (by decide) ?_
            refine m_zst hC hE hG 22 (by decide) rfl (N := 320) rfl (by decide) (j := 4 * (tN (σ.2 16 t)) + (tN (σ.2 17 t))) (by omega) (rfl) dX3_perform_133 (fun H locs hG => ?_)
            exact g_vret hC hG hr (sU (σ) 22 (4 * (tN (σ.2 16 t)) + (tN (σ.2 17 t))) ((1))) rfl (by simp only [mPerf, if_neg c_20, if_neg c_37, if_neg c_47, if_neg c_79, if_pos c_125, if_true, if_false]) hlocks dX3_perform_134
        · skip
          refine lv_aload_n hC.1 hC.2.1 dX3_perform_82 rfl (lv_at hl 2 rfl) ?_
          refine m_geta hC hE hG 18 (by decide) (fun _ => rfl) q774 rfl dX3_perform_83 ?_
          refine lv_iload_n hC.1 hC.2.1 dX3_perform_86 rfl (lv_at hl 0 rfl) ?_
          refine m_zld hC hE hG 18 (by decide) rfl (N := 80) rfl (by decide) (j := tN (σ.2 17 t)) (v := σ.2 18 (tN (σ.2 17 t))) (by omega) (rfl) dX3_perform_87 ?_
          refine lv_if_eq (tgt := 134) hC.1 hC.2.1 dX3_perform_88 (by decide) (fun c_88 => ?_) (fun c_88 => ?_)
          · skip
            exact g_vret hC hG hr (σ) rfl (by simp only [mPerf, if_neg c_20, if_neg c_37, if_neg c_47, if_pos c_79, if_pos c_88, if_true, if_false]) hlocks dX3_perform_134
          · skip
            refine lv_aload_n hC.1 hC.2.1 dX3_perform_91 rfl (lv_at hl 2 rfl) ?_
            refine lv_iload_n hC.1 hC.2.1 dX3_perform_92 rfl (lv_at hl 1 rfl) ?_
            refine lv_iload_n hC.1 hC.2.1 dX3_perform_93 rfl (lv_at hl 0 rfl) ?_
            refine g_cVv (As := [.int (nI (tN (σ.2 16 t))), .int (nI (tN (σ.2 17 t)))]) (rest := []) (S := MS) hC hE hG (mt_doMerge l K A G0 h (σ) (tN (σ.2 16 t)) (tN (σ.2 17 t)) h16 h17) (cwV 2 hC.2.2.2.2 (lw_V q891 q893 qs15 q26 q894) rfl rfl rfl (by decide +kernel) ⟨Nat.le_of_ble_eq_true rfl, Nat.le_of_ble_eq_true rfl⟩) (mput_o _ _ _ _) rfl rfl hl.1 rfl (Nat.le_of_ble_eq_true rfl) dX3_perform_94 ⟨Nat.le_of_ble_eq_true rfl, Nat.le_of_ble_eq_true rfl⟩ (fun u H locs hu9 hG => ?_)
            subst hu9
            refine lv_goto (tgt := 134) hC.1 hC.2.1 dX3_perform_97 (by decide) ?_
            exact g_vret hC hG hr (mMerge σ (tN (σ.2 16 t)) (tN (σ.2 17 t))) rfl (by simp only [mPerf, if_neg c_20, if_neg c_37, if_neg c_47, if_pos c_79, if_neg c_88, if_true, if_false]) hlocks dX3_perform_134
      · skip
        refine lv_aload_n hC.1 hC.2.1 dX3_perform_50 rfl (lv_at hl 2 rfl) ?_
        refine m_geta hC hE hG 23 (by decide) (fun _ => rfl) q779 rfl dX3_perform_51 ?_
        refine lv_iload_n hC.1 hC.2.1 dX3_perform_54 rfl (lv_at hl 1 rfl) ?_
        refine lv_dup2_11 hC.1 hC.2.1 dX3_perform_55 rfl rfl ?_
        refine m_ild hC hE hG 23 (by decide) rfl (N := 80) rfl (by decide) (j := tN (σ.2 16 t)) (v := σ.2 23 (tN (σ.2 16 t))) (by omega) (rfl) dX3_perform_56 ?_
        refine lv_iconst (v := 1) hC.1 hC.2.1 dX3_perform_57 (by decide) ?_
        refine lv_iadd hC.1 hC.2.1 dX3_perform_58 ?_
        refine m_ist hC hE hG 23 (by decide) rfl (N := 80) rfl (by decide) (j := tN (σ.2 16 t)) (by omega) dX3_perform_59 (fun H locs hG => ?_)
        refine lv_goto (tgt := 134) hC.1 hC.2.1 dX3_perform_60 (by decide) ?_
        exact g_vret hC hG hr (sU (σ) 23 (tN (σ.2 16 t)) ((σ.2 23 (tN (σ.2 16 t))) + (1))) rfl (by simp only [mPerf, if_neg c_20, if_neg c_37, if_pos c_47, if_true, if_false]) hlocks dX3_perform_134
  · skip
    refine lv_aload_n hC.1 hC.2.1 dX3_perform_23 rfl (lv_at hl 2 rfl) ?_
    refine lv_iload_n hC.1 hC.2.1 dX3_perform_24 rfl (lv_at hl 1 rfl) ?_
    refine g_cVv (As := [.int (nI (tN (σ.2 16 t)))]) (rest := []) (S := MS) hC hE hG (mt_doLoad l K A G0 h (σ) (tN (σ.2 16 t)) h16 hw) (cwV 1 hC.2.2.2.2 (lw_V q875 q877 qs11 q26 q878) rfl rfl rfl (by decide +kernel) ⟨Nat.le_of_ble_eq_true rfl, Nat.le_of_ble_eq_true rfl⟩) (mput_o _ _ _ _) rfl rfl hl.1 rfl (Nat.le_of_ble_eq_true rfl) dX3_perform_25 ⟨Nat.le_of_ble_eq_true rfl, Nat.le_of_ble_eq_true rfl⟩ (fun u H locs hu9 hG => ?_)
    subst hu9
    refine lv_goto (tgt := 134) hC.1 hC.2.1 dX3_perform_28 (by decide) ?_
    exact g_vret hC hG hr (mDoLoad σ (tN (σ.2 16 t))) rfl (by simp only [mPerf, if_pos c_20, if_true, if_false]) hlocks dX3_perform_134
