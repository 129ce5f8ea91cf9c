/-! the reference's methods, walked: part b (written by tools/mkmodel.py) -/
set_option maxRecDepth 100000
set_option maxHeartbeats 4000000 in
theorem mt_add (l : Launch) (K : GK) (A : Nat → Prop) (G0 : GM) (h : Nat → Nat) (σ : MS) (k a b : Int32) (d : Nat) (hd : d < 180) (hdm : σ.1 14 = nI d) (hwn : wF (mNote σ d k a b)) : Met l yX3_add (ws_ yX3_add cX3_add 4 none) ({ frames := 3, cells := 0, slots := 0, locals := 71 }) (va_Pc ([.ref (h 25), .int (k), .int (a), .int (b)]) (gW K A (mput K.2.1 h (σ) G0))) (va_Qv (fun u9 : MS => u9 = mAdd σ d k a b) (fun u t => gB K A (mput K.2.1 h u G0) t) A) 0 0 (A) := by
  refine g_ofW (cc := cX3_add) (by decide) (own := RX3) rfl (Nat.le_of_ble_eq_true rfl) ?_
  intro p e s m below meth c hC hr hlocks hnm hE hG ls hl
  have hl : lv_has ls 4 [(0, .ref (h 25)), (1, .int (k)), (2, .int (a)), (3, .int (b))] := hl
  refine lv_aload_n hC.1 hC.2.1 dX3_add_0 rfl (lv_at hl 0 rfl) ?_
  refine m_geta hC hE hG 15 (by decide) (fun _ => rfl) q771 rfl dX3_add_1 ?_
  refine lv_aload_n hC.1 hC.2.1 dX3_add_4 rfl (lv_at hl 0 rfl) ?_
  refine m_gets hC hE hG 14 (by decide) (fun _ => rfl) (v := nI (d)) (hdm) q770 rfl dX3_add_5 ?_
  refine lv_iload_n hC.1 hC.2.1 dX3_add_8 rfl (lv_at hl 1 rfl) ?_
  refine m_ist hC hE hG 15 (by decide) rfl (N := 180) rfl (by decide) (j := d) (by omega) dX3_add_9 (fun H locs hG => ?_)
  refine lv_aload_n hC.1 hC.2.1 dX3_add_10 rfl (lv_at hl 0 rfl) ?_
  refine m_geta hC hE hG 16 (by decide) (fun _ => rfl) q772 rfl dX3_add_11 ?_
  refine lv_aload_n hC.1 hC.2.1 dX3_add_14 rfl (lv_at hl 0 rfl) ?_
  refine m_gets hC hE hG 14 (by decide) (fun _ => rfl) (v := nI (d)) (hdm) q770 rfl dX3_add_15 ?_
  refine lv_iload_n hC.1 hC.2.1 dX3_add_18 rfl (lv_at hl 2 rfl) ?_
  refine m_ist hC hE hG 16 (by decide) rfl (N := 180) rfl (by decide) (j := d) (by omega) dX3_add_19 (fun H locs hG => ?_)
  refine lv_aload_n hC.1 hC.2.1 dX3_add_20 rfl (lv_at hl 0 rfl) ?_
  refine m_geta hC hE hG 17 (by decide) (fun _ => rfl) q773 rfl dX3_add_21 ?_
  refine lv_aload_n hC.1 hC.2.1 dX3_add_24 rfl (lv_at hl 0 rfl) ?_
  refine m_gets hC hE hG 14 (by decide) (fun _ => rfl) (v := nI (d)) (hdm) q770 rfl dX3_add_25 ?_
  refine lv_iload_n hC.1 hC.2.1 dX3_add_28 rfl (lv_at hl 3 rfl) ?_
  refine m_ist hC hE hG 17 (by decide) rfl (N := 180) rfl (by decide) (j := d) (by omega) dX3_add_29 (fun H locs hG => ?_)
  refine lv_aload_n hC.1 hC.2.1 dX3_add_30 rfl (lv_at hl 0 rfl) ?_
  refine lv_dup hC.1 hC.2.1 dX3_add_31 rfl ?_
  refine m_gets hC hE hG 14 (by decide) (fun _ => rfl) (v := nI (d)) (hdm) q770 rfl dX3_add_32 ?_
  refine lv_iconst (v := 1) hC.1 hC.2.1 dX3_add_35 (by decide) ?_
  refine n_add (a := d) (b := 1) (d := d + 1) hC (by first | rfl | omega) dX3_add_36 ?_
  refine m_puts hC hE hG 14 (by decide) q770 dX3_add_37 (fun H locs hG => ?_)
  refine lv_aload_n hC.1 hC.2.1 dX3_add_40 rfl (lv_at hl 0 rfl) ?_
  refine lv_aload_n hC.1 hC.2.1 dX3_add_41 rfl (lv_at hl 0 rfl) ?_
  refine m_gets hC hE hG 14 (by decide) (fun _ => rfl) (v := nI (d + 1)) (rfl) q770 rfl dX3_add_42 ?_
  refine lv_iconst (v := 1) hC.1 hC.2.1 dX3_add_45 (by decide) ?_
  refine n_sub (a := d + 1) (b := 1) (d := d) hC (by omega) (by omega) dX3_add_46 ?_
  refine g_cVv (As := [.int (nI (d))]) (rest := []) (S := MS) hC hE hG (mt_perform l K A G0 h (sS (sU (sU (sU (σ) 15 (d) (k)) 16 (d) (a)) 17 (d) (b)) 14 (nI (d + 1))) d hd hwn) (cwV 1 hC.2.2.2.2 (lw_V q871 q873 qs10 q26 q874) rfl rfl rfl (by decide +kernel) ⟨Nat.le_of_ble_eq_true rfl, Nat.le_of_ble_eq_true rfl⟩) (mput_o _ _ _ _) rfl rfl hl.1 rfl (Nat.le_of_ble_eq_true rfl) dX3_add_47 ⟨Nat.le_of_ble_eq_true rfl, Nat.le_of_ble_eq_true rfl⟩ (fun u H locs hu9 hG => ?_)
  subst hu9
  exact g_vret hC hG hr (mPerf (sS (sU (sU (sU (σ) 15 (d) (k)) 16 (d) (a)) 17 (d) (b)) 14 (nI (d + 1))) d) rfl (by rfl) hlocks dX3_add_50
set_option maxHeartbeats 4000000 in
theorem mt_makeAnew (l : Launch) (K : GK) (A : Nat → Prop) (G0 : GM) (h : Nat → Nat) (σ : MS) (d : Nat) (hd : d ≤ 180) (hdm : σ.1 14 = nI d) (hw : wF σ) : Met l yX3_makeAnew (ws_ yX3_makeAnew cX3_makeAnew 2 none) ({ frames := 3, cells := 0, slots := 0, locals := 71 }) (va_Pc ([.ref (h 25)]) (gW K A (mput K.2.1 h (σ) G0))) (va_Qv (fun u9 : MS => u9 = mAnew σ d) (fun u t => gB K A (mput K.2.1 h u G0) t) A) 0 0 (A) := by
  refine g_ofW (cc := cX3_makeAnew) (by decide) (own := RX3) rfl (Nat.le_of_ble_eq_true rfl) ?_
  intro p e s m below meth c hC hr hlocks hnm hE hG ls hl
  have hl : lv_has ls 2 [(0, .ref (h 25))] := hl
  refine lv_iconst (v := 0) hC.1 hC.2.1 dX3_makeAnew_0 (by decide) ?_
  refine lv_istore_n (lv' := [(1, .int ((0))), (0, .ref (h 25))]) hC.1 hC.2.1 dX3_makeAnew_1 rfl hl (by decide) rfl (fun ls hl => ?_)
  have lp2 : ∀ (nn i2 : Nat), i2 + nn = 80 → ∀ (H : Heap) (locs : List Loc), gG K A s.heap (mput K.2.1 h (mNo (i2) (σ)) G0) H locs → ∀ ls : Array Slot, lv_has ls 2 [(1, .int (nI (i2))), (0, .ref (h 25))] → W p l e ({ frames := 3, cells := 0, slots := 0, locals := 71 }) s m ([.ref (h 25)] : List Value).toArray below meth c H locs 0 0 (MQ below (va_Qv (fun u9 : MS => u9 = mAnew σ d) (fun u t => gB K A (mput K.2.1 h u G0) t) A) ([.ref (h 25)] : List Value).toArray s 0 0 (A)) (F0 m 2 ls []) := by
    intro nn
    induction nn with
    | zero =>
      intro i2 hi2 H locs hG ls hl
      obtain rfl : 80 = i2 := by omega
      refine lv_iload_n hC.1 hC.2.1 dX3_makeAnew_2 rfl (lv_at hl 0 rfl) ?_
      refine lv_bipush (v := 80) hC.1 hC.2.1 dX3_makeAnew_3 (by decide) ?_
      refine n_ge (a := 80) (b := 80) hC (by omega) (by omega) (tgt := 21) dX3_makeAnew_5 (by decide) (fun c_5 => ?_) (fun c_5 => absurd c_5 (by omega))
      refine lv_iconst (v := 0) hC.1 hC.2.1 dX3_makeAnew_21 (by decide) ?_
      refine lv_istore_n (lv' := [(1, .int ((0))), (0, .ref (h 25))]) hC.1 hC.2.1 dX3_makeAnew_22 rfl hl (by decide) rfl (fun ls hl => ?_)
      have lp23 : ∀ (nn i23 : Nat), i23 + nn = d → ∀ (H : Heap) (locs : List Loc), gG K A s.heap (mput K.2.1 h (mRun (i23) (mNo 80 σ)) G0) H locs → ∀ ls : Array Slot, lv_has ls 2 [(1, .int (nI (i23))), (0, .ref (h 25))] → W p l e ({ frames := 3, cells := 0, slots := 0, locals := 71 }) s m ([.ref (h 25)] : List Value).toArray below meth c H locs 0 0 (MQ below (va_Qv (fun u9 : MS => u9 = mAnew σ d) (fun u t => gB K A (mput K.2.1 h u G0) t) A) ([.ref (h 25)] : List Value).toArray s 0 0 (A)) (F0 m 23 ls []) := by
        intro nn
        induction nn with
        | zero =>
          intro i23 hi23 H locs hG ls hl
          obtain rfl : d = i23 := by omega
          refine lv_iload_n hC.1 hC.2.1 dX3_makeAnew_23 rfl (lv_at hl 0 rfl) ?_
          refine lv_aload_n hC.1 hC.2.1 dX3_makeAnew_24 rfl (lv_at hl 1 rfl) ?_
          refine m_gets hC hE hG 14 (by decide) (fun _ => rfl) (v := nI (d)) (((kp_No σ 80).tr (kp_Run _ _)).1 ▸ hdm) q770 rfl dX3_makeAnew_25 ?_
          refine n_ge (a := d) (b := d) hC (by omega) (by omega) (tgt := 42) dX3_makeAnew_28 (by decide) (fun c_28 => ?_) (fun c_28 => absurd c_28 (by omega))
          exact g_vret hC hG hr (mRun (d) (mNo 80 σ)) rfl (by rfl) hlocks dX3_makeAnew_42
        | succ nn ih23 =>
          intro i23 hi23 H locs hG ls hl
          have hlt23 : i23 < d := by omega
          refine lv_iload_n hC.1 hC.2.1 dX3_makeAnew_23 rfl (lv_at hl 0 rfl) ?_
          refine lv_aload_n hC.1 hC.2.1 dX3_makeAnew_24 rfl (lv_at hl 1 rfl) ?_
          refine m_gets hC hE hG 14 (by decide) (fun _ => rfl) (v := nI (d)) (((kp_No σ 80).tr (kp_Run _ _)).1 ▸ hdm) q770 rfl dX3_makeAnew_25 ?_
          refine n_ge (a := i23) (b := d) hC (by omega) (by omega) (tgt := 42) dX3_makeAnew_28 (by decide) (fun c_28 => absurd c_28 (by omega)) (fun c_28 => ?_)
          refine lv_aload_n hC.1 hC.2.1 dX3_makeAnew_31 rfl (lv_at hl 1 rfl) ?_
          refine lv_iload_n hC.1 hC.2.1 dX3_makeAnew_32 rfl (lv_at hl 0 rfl) ?_
          refine g_cVv (As := [.int (nI (i23))]) (rest := []) (S := MS) hC hE hG (mt_perform l K A G0 h (mRun (i23) (mNo 80 σ)) i23 (by omega) (wF_Run (wF_No hw 80) i23)) (cwV 1 hC.2.2.2.2 (lw_V q871 q873 qs10 q26 q874) rfl rfl rfl (by decide +kernel) ⟨Nat.le_of_ble_eq_true rfl, Nat.le_of_ble_eq_true rfl⟩) (mput_o _ _ _ _) rfl rfl hl.1 rfl (Nat.le_of_ble_eq_true rfl) dX3_makeAnew_33 ⟨Nat.le_of_ble_eq_true rfl, Nat.le_of_ble_eq_true rfl⟩ (fun u H locs hu9 hG => ?_)
          subst hu9
          refine lv_iinc (v := nI (i23 + 1)) (lv' := [(1, .int (nI (i23 + 1))), (0, .ref (h 25))]) hC.1 hC.2.1 dX3_makeAnew_36 hl (k := 0) rfl (n_inc _) (by decide) rfl (fun ls hl => ?_)
          refine lv_goto (tgt := 23) hC.1 hC.2.1 dX3_makeAnew_39 (by decide) ?_
          have hσ : mPerf (mRun (i23) (mNo 80 σ)) i23 = mRun (i23 + 1) (mNo 80 σ) := by
            simp only [mRun, if_true, if_false]
          exact ih23 (i23 + 1) (by omega) _ _ (hG.eq (by rw [hσ])) ls (lv_sub hl [0, 1] rfl)
      exact lp23 d 0 (by omega) _ _ hG ls (lv_sub hl [0, 1] rfl)
    | succ nn ih2 =>
      intro i2 hi2 H locs hG ls hl
      have hlt2 : i2 < 80 := by omega
      refine lv_iload_n hC.1 hC.2.1 dX3_makeAnew_2 rfl (lv_at hl 0 rfl) ?_
      refine lv_bipush (v := 80) hC.1 hC.2.1 dX3_makeAnew_3 (by decide) ?_
      refine n_ge (a := i2) (b := 80) hC (by omega) (by omega) (tgt := 21) dX3_makeAnew_5 (by decide) (fun c_5 => absurd c_5 (by omega)) (fun c_5 => ?_)
      refine lv_aload_n hC.1 hC.2.1 dX3_makeAnew_8 rfl (lv_at hl 1 rfl) ?_
      refine m_geta hC hE hG 18 (by decide) (fun _ => rfl) q774 rfl dX3_makeAnew_9 ?_
      refine lv_iload_n hC.1 hC.2.1 dX3_makeAnew_12 rfl (lv_at hl 0 rfl) ?_
      refine lv_iconst (v := 0) hC.1 hC.2.1 dX3_makeAnew_13 (by decide) ?_
      refine m_zst hC hE hG 18 (by decide) rfl (N := 80) rfl (by decide) (j := i2) (by omega) (rfl) dX3_makeAnew_14 (fun H locs hG => ?_)
      refine lv_iinc (v := nI (i2 + 1)) (lv' := [(1, .int (nI (i2 + 1))), (0, .ref (h 25))]) hC.1 hC.2.1 dX3_makeAnew_15 hl (k := 0) rfl (n_inc _) (by decide) rfl (fun ls hl => ?_)
      refine lv_goto (tgt := 2) hC.1 hC.2.1 dX3_makeAnew_18 (by decide) ?_
      have hσ : sU (mNo (i2) (σ)) 18 (i2) ((0)) = mNo (i2 + 1) (σ) := by
        simp only [mNo, if_true, if_false]
      exact ih2 (i2 + 1) (by omega) _ _ (hG.eq (by rw [hσ])) ls (lv_sub hl [0, 1] rfl)
  exact lp2 80 0 (by omega) _ _ hG ls (lv_sub hl [0, 1] rfl)
set_option maxHeartbeats 4000000 in
theorem mt_setRank (l : Launch) (K : GK) (A : Nat → Prop) (G0 : GM) (h : Nat → Nat) (σ : MS) (a b : Int32) : Met l yX3_setRank (ws_ yX3_setRank cX3_setRank 4 (some .int)) ({ frames := 1, cells := 0, slots := 0, locals := 22 }) (va_Pc ([.ref (h 25), .int (a), .int (b)]) (gW K A (mput K.2.1 h (σ) G0))) (va_Qi (fun (r9 : Int32) (u9 : MS) => (r9, u9) = mSetRank σ a b) (fun u t => gB K A (mput K.2.1 h u G0) t) A) 0 0 (A) := by
  refine g_ofW (cc := cX3_setRank) (by decide) (own := RX3) rfl (Nat.le_of_ble_eq_true rfl) ?_
  intro p e s m below meth c hC hr hlocks hnm hE hG ls hl
  have hl : lv_has ls 4 [(0, .ref (h 25)), (1, .int (a)), (2, .int (b))] := hl
  refine lv_aload_n hC.1 hC.2.1 dX3_setRank_0 rfl (lv_at hl 0 rfl) ?_
  refine lv_iload_n hC.1 hC.2.1 dX3_setRank_1 rfl (lv_at hl 1 rfl) ?_
  refine lv_iconst (v := 0) hC.1 hC.2.1 dX3_setRank_2 (by decide) ?_
  refine lv_iconst (v := 4) hC.1 hC.2.1 dX3_setRank_3 (by decide) ?_
  refine g_sP (As := [.int (a), .int ((0)), .int ((4))]) (rest := [.ref (h 25)]) hC (mt_in l (a) ((0)) ((4))) (va_cwS 3 hC.2.2.2.2 (lw_S q840 q841 q26 q842) rfl rfl rfl (by decide +kernel) ⟨Nat.le_of_ble_eq_true rfl, Nat.le_of_ble_eq_true rfl⟩) rfl hl.1 rfl (Nat.le_of_ble_eq_true rfl) dX3_setRank_4 ⟨Nat.le_of_ble_eq_true rfl, Nat.le_of_ble_eq_true rfl⟩ (fun r hr9 => ?_)
  subst hr9
  refine b_ne (tgt := 14) hC dX3_setRank_7 (by decide) (fun c_7 => ?_) (fun c_7 => ?_)
  · skip
    refine lv_iload_n hC.1 hC.2.1 dX3_setRank_14 rfl (lv_at hl 2 rfl) ?_
    refine lv_iconst (v := 0) hC.1 hC.2.1 dX3_setRank_15 (by decide) ?_
    refine lv_bipush (v := 9) hC.1 hC.2.1 dX3_setRank_16 (by decide) ?_
    refine g_sP (As := [.int (b), .int ((0)), .int ((9))]) (rest := [.ref (h 25)]) hC (mt_in l (b) ((0)) ((9))) (va_cwS 3 hC.2.2.2.2 (lw_S q840 q841 q26 q842) rfl rfl rfl (by decide +kernel) ⟨Nat.le_of_ble_eq_true rfl, Nat.le_of_ble_eq_true rfl⟩) rfl hl.1 rfl (Nat.le_of_ble_eq_true rfl) dX3_setRank_18 ⟨Nat.le_of_ble_eq_true rfl, Nat.le_of_ble_eq_true rfl⟩ (fun r hr9 => ?_)
    subst hr9
    refine b_ne (tgt := 28) hC dX3_setRank_21 (by decide) (fun c_21 => ?_) (fun c_21 => ?_)
    · skip
      refine lv_aload_n hC.1 hC.2.1 dX3_setRank_28 rfl (lv_at hl 0 rfl) ?_
      refine m_gets hC hE hG 7 (by decide) (fun _ => rfl) (v := σ.1 7) (rfl) q763 rfl dX3_setRank_29 ?_
      refine lv_if_le (tgt := 39) hC.1 hC.2.1 dX3_setRank_32 (by decide) (fun c_32 => ?_) (fun c_32 => ?_)
      · skip
        refine lv_iconst (v := 0) hC.1 hC.2.1 dX3_setRank_39 (by decide) ?_
        refine m_puts hC hE hG 24 (by decide) q780 dX3_setRank_40 (fun H locs hG => ?_)
        refine lv_aload_n hC.1 hC.2.1 dX3_setRank_43 rfl (lv_at hl 0 rfl) ?_
        refine m_gets hC hE hG 24 (by decide) (fun _ => rfl) (v := (0)) (rfl) q780 rfl dX3_setRank_44 ?_
        refine lv_if_le (tgt := 52) hC.1 hC.2.1 dX3_setRank_47 (by decide) (fun c_47 => ?_) (fun c_47 => absurd c_47 (by decide))
        refine lv_aload_n hC.1 hC.2.1 dX3_setRank_52 rfl (lv_at hl 0 rfl) ?_
        refine m_geta hC hE hG 0 (by decide) (fun _ => rfl) q756 rfl dX3_setRank_53 ?_
        refine lv_iload_n hC.1 hC.2.1 dX3_setRank_56 rfl (lv_at hl 1 rfl) ?_
        refine m_iald hC hE hG 0 (by decide) rfl (N := 5) rfl (i := a) (v := σ.2 0 (tN (a))) (inR_in c_7 (by decide) rfl) (rfl) dX3_setRank_57 ?_
        refine lv_istore_n (lv' := [(3, .int (σ.2 0 (tN (a)))), (0, .ref (h 25)), (1, .int (a)), (2, .int (b))]) hC.1 hC.2.1 dX3_setRank_58 rfl hl (by decide) rfl (fun ls hl => ?_)
        refine lv_aload_n hC.1 hC.2.1 dX3_setRank_59 rfl (lv_at hl 1 rfl) ?_
        refine m_geta hC hE hG 0 (by decide) (fun _ => rfl) q756 rfl dX3_setRank_60 ?_
        refine lv_iload_n hC.1 hC.2.1 dX3_setRank_63 rfl (lv_at hl 2 rfl) ?_
        refine lv_iload_n hC.1 hC.2.1 dX3_setRank_64 rfl (lv_at hl 3 rfl) ?_
        refine m_iast hC hE hG 0 (by decide) rfl (N := 5) rfl (i := a) (inR_in c_7 (by decide) rfl) dX3_setRank_65 (fun H locs hG => ?_)
        refine lv_iload_n hC.1 hC.2.1 dX3_setRank_66 rfl (lv_at hl 0 rfl) ?_
        exact g_iret hC hG hr (rfl) (sU (sS (σ) 24 ((0))) 0 (tN (a)) (b)) rfl (by simp only [mSetRank, if_pos c_7, if_pos c_21, if_pos c_32, if_true, if_false]) hlocks dX3_setRank_67
      · skip
        refine lv_iconst (v := 3) hC.1 hC.2.1 dX3_setRank_35 (by decide) ?_
        refine lv_goto (tgt := 40) hC.1 hC.2.1 dX3_setRank_36 (by decide) ?_
        refine m_puts hC hE hG 24 (by decide) q780 dX3_setRank_40 (fun H locs hG => ?_)
        refine lv_aload_n hC.1 hC.2.1 dX3_setRank_43 rfl (lv_at hl 0 rfl) ?_
        refine m_gets hC hE hG 24 (by decide) (fun _ => rfl) (v := (3)) (rfl) q780 rfl dX3_setRank_44 ?_
        refine lv_if_le (tgt := 52) hC.1 hC.2.1 dX3_setRank_47 (by decide) (fun c_47 => absurd c_47 (by decide)) (fun c_47 => ?_)
        refine lv_iconst (v := 0) hC.1 hC.2.1 dX3_setRank_50 (by decide) ?_
        exact g_iret hC hG hr (rfl) (sS (σ) 24 ((3))) rfl (by simp only [mSetRank, if_pos c_7, if_pos c_21, if_neg c_32, if_true, if_false]) hlocks dX3_setRank_51
    · skip
      refine lv_iconst (v := 2) hC.1 hC.2.1 dX3_setRank_24 (by decide) ?_
      refine lv_goto (tgt := 40) hC.1 hC.2.1 dX3_setRank_25 (by decide) ?_
      refine m_puts hC hE hG 24 (by decide) q780 dX3_setRank_40 (fun H locs hG => ?_)
      refine lv_aload_n hC.1 hC.2.1 dX3_setRank_43 rfl (lv_at hl 0 rfl) ?_
      refine m_gets hC hE hG 24 (by decide) (fun _ => rfl) (v := (2)) (rfl) q780 rfl dX3_setRank_44 ?_
      refine lv_if_le (tgt := 52) hC.1 hC.2.1 dX3_setRank_47 (by decide) (fun c_47 => absurd c_47 (by decide)) (fun c_47 => ?_)
      refine lv_iconst (v := 0) hC.1 hC.2.1 dX3_setRank_50 (by decide) ?_
      exact g_iret hC hG hr (rfl) (sS (σ) 24 ((2))) rfl (by simp only [mSetRank, if_pos c_7, if_neg c_21, if_true, if_false]) hlocks dX3_setRank_51
  · skip
    refine lv_iconst (v := 1) hC.1 hC.2.1 dX3_setRank_10 (by decide) ?_
    refine lv_goto (tgt := 40) hC.1 hC.2.1 dX3_setRank_11 (by decide) ?_
    refine m_puts hC hE hG 24 (by decide) q780 dX3_setRank_40 (fun H locs hG => ?_)
    refine lv_aload_n hC.1 hC.2.1 dX3_setRank_43 rfl (lv_at hl 0 rfl) ?_
    refine m_gets hC hE hG 24 (by decide) (fun _ => rfl) (v := (1)) (rfl) q780 rfl dX3_setRank_44 ?_
    refine lv_if_le (tgt := 52) hC.1 hC.2.1 dX3_setRank_47 (by decide) (fun c_47 => absurd c_47 (by decide)) (fun c_47 => ?_)
    refine lv_iconst (v := 0) hC.1 hC.2.1 dX3_setRank_50 (by decide) ?_
    exact g_iret hC hG hr (rfl) (sS (σ) 24 ((1))) rfl (by simp only [mSetRank, if_neg c_7, if_true, if_false]) hlocks dX3_setRank_51
set_option maxHeartbeats 4000000 in
theorem mt_setRule (l : Launch) (K : GK) (A : Nat → Prop) (G0 : GM) (h : Nat → Nat) (σ : MS) (a b : Int32) : Met l yX3_setRule (ws_ yX3_setRule cX3_setRule 4 (some .int)) ({ frames := 1, cells := 0, slots := 0, locals := 22 }) (va_Pc ([.ref (h 25), .int (a), .int (b)]) (gW K A (mput K.2.1 h (σ) G0))) (va_Qi (fun (r9 : Int32) (u9 : MS) => (r9, u9) = mSetRule σ a b) (fun u t => gB K A (mput K.2.1 h u G0) t) A) 0 0 (A) := by
  refine g_ofW (cc := cX3_setRule) (by decide) (own := RX3) rfl (Nat.le_of_ble_eq_true rfl) ?_
  intro p e s m below meth c hC hr hlocks hnm hE hG ls hl
  have hl : lv_has ls 4 [(0, .ref (h 25)), (1, .int (a)), (2, .int (b))] := hl
  refine lv_aload_n hC.1 hC.2.1 dX3_setRule_0 rfl (lv_at hl 0 rfl) ?_
  refine lv_iload_n hC.1 hC.2.1 dX3_setRule_1 rfl (lv_at hl 1 rfl) ?_
  refine lv_iconst (v := 0) hC.1 hC.2.1 dX3_setRule_2 (by decide) ?_
  refine lv_iconst (v := 3) hC.1 hC.2.1 dX3_setRule_3 (by decide) ?_
  refine g_sP (As := [.int (a), .int ((0)), .int ((3))]) (rest := [.ref (h 25)]) hC (mt_in l (a) ((0)) ((3))) (va_cwS 3 hC.2.2.2.2 (lw_S q840 q841 q26 q842) rfl rfl rfl (by decide +kernel) ⟨Nat.le_of_ble_eq_true rfl, Nat.le_of_ble_eq_true rfl⟩) rfl hl.1 rfl (Nat.le_of_ble_eq_true rfl) dX3_setRule_4 ⟨Nat.le_of_ble_eq_true rfl, Nat.le_of_ble_eq_true rfl⟩ (fun r hr9 => ?_)
  subst hr9
  refine b_ne (tgt := 14) hC dX3_setRule_7 (by decide) (fun c_7 => ?_) (fun c_7 => ?_)
  · skip
    refine lv_iload_n hC.1 hC.2.1 dX3_setRule_14 rfl (lv_at hl 2 rfl) ?_
    refine lv_iconst (v := 0) hC.1 hC.2.1 dX3_setRule_15 (by decide) ?_
    refine lv_iconst (v := 2) hC.1 hC.2.1 dX3_setRule_16 (by decide) ?_
    refine g_sP (As := [.int (b), .int ((0)), .int ((2))]) (rest := [.ref (h 25)]) hC (mt_in l (b) ((0)) ((2))) (va_cwS 3 hC.2.2.2.2 (lw_S q840 q841 q26 q842) rfl rfl rfl (by decide +kernel) ⟨Nat.le_of_ble_eq_true rfl, Nat.le_of_ble_eq_true rfl⟩) rfl hl.1 rfl (Nat.le_of_ble_eq_true rfl) dX3_setRule_17 ⟨Nat.le_of_ble_eq_true rfl, Nat.le_of_ble_eq_true rfl⟩ (fun r hr9 => ?_)
    subst hr9
    refine b_ne (tgt := 27) hC dX3_setRule_20 (by decide) (fun c_20 => ?_) (fun c_20 => ?_)
    · skip
      refine lv_aload_n hC.1 hC.2.1 dX3_setRule_27 rfl (lv_at hl 0 rfl) ?_
      refine m_gets hC hE hG 7 (by decide) (fun _ => rfl) (v := σ.1 7) (rfl) q763 rfl dX3_setRule_28 ?_
      refine lv_if_le (tgt := 38) hC.1 hC.2.1 dX3_setRule_31 (by decide) (fun c_31 => ?_) (fun c_31 => ?_)
      · skip
        refine lv_iconst (v := 0) hC.1 hC.2.1 dX3_setRule_38 (by decide) ?_
        refine m_puts hC hE hG 24 (by decide) q780 dX3_setRule_39 (fun H locs hG => ?_)
        refine lv_aload_n hC.1 hC.2.1 dX3_setRule_42 rfl (lv_at hl 0 rfl) ?_
        refine m_gets hC hE hG 24 (by decide) (fun _ => rfl) (v := (0)) (rfl) q780 rfl dX3_setRule_43 ?_
        refine lv_if_le (tgt := 51) hC.1 hC.2.1 dX3_setRule_46 (by decide) (fun c_46 => ?_) (fun c_46 => absurd c_46 (by decide))
        refine lv_aload_n hC.1 hC.2.1 dX3_setRule_51 rfl (lv_at hl 0 rfl) ?_
        refine m_geta hC hE hG 1 (by decide) (fun _ => rfl) q757 rfl dX3_setRule_52 ?_
        refine lv_iload_n hC.1 hC.2.1 dX3_setRule_55 rfl (lv_at hl 1 rfl) ?_
        refine m_iald hC hE hG 1 (by decide) rfl (N := 4) rfl (i := a) (v := σ.2 1 (tN (a))) (inR_in c_7 (by decide) rfl) (rfl) dX3_setRule_56 ?_
        refine lv_istore_n (lv' := [(3, .int (σ.2 1 (tN (a)))), (0, .ref (h 25)), (1, .int (a)), (2, .int (b))]) hC.1 hC.2.1 dX3_setRule_57 rfl hl (by decide) rfl (fun ls hl => ?_)
        refine lv_aload_n hC.1 hC.2.1 dX3_setRule_58 rfl (lv_at hl 1 rfl) ?_
        refine m_geta hC hE hG 1 (by decide) (fun _ => rfl) q757 rfl dX3_setRule_59 ?_
        refine lv_iload_n hC.1 hC.2.1 dX3_setRule_62 rfl (lv_at hl 2 rfl) ?_
        refine lv_iload_n hC.1 hC.2.1 dX3_setRule_63 rfl (lv_at hl 3 rfl) ?_
        refine m_iast hC hE hG 1 (by decide) rfl (N := 4) rfl (i := a) (inR_in c_7 (by decide) rfl) dX3_setRule_64 (fun H locs hG => ?_)
        refine lv_iload_n hC.1 hC.2.1 dX3_setRule_65 rfl (lv_at hl 0 rfl) ?_
        exact g_iret hC hG hr (rfl) (sU (sS (σ) 24 ((0))) 1 (tN (a)) (b)) rfl (by simp only [mSetRule, if_pos c_7, if_pos c_20, if_pos c_31, if_true, if_false]) hlocks dX3_setRule_66
      · skip
        refine lv_iconst (v := 3) hC.1 hC.2.1 dX3_setRule_34 (by decide) ?_
        refine lv_goto (tgt := 39) hC.1 hC.2.1 dX3_setRule_35 (by decide) ?_
        refine m_puts hC hE hG 24 (by decide) q780 dX3_setRule_39 (fun H locs hG => ?_)
        refine lv_aload_n hC.1 hC.2.1 dX3_setRule_42 rfl (lv_at hl 0 rfl) ?_
        refine m_gets hC hE hG 24 (by decide) (fun _ => rfl) (v := (3)) (rfl) q780 rfl dX3_setRule_43 ?_
        refine lv_if_le (tgt := 51) hC.1 hC.2.1 dX3_setRule_46 (by decide) (fun c_46 => absurd c_46 (by decide)) (fun c_46 => ?_)
        refine lv_iconst (v := 0) hC.1 hC.2.1 dX3_setRule_49 (by decide) ?_
        exact g_iret hC hG hr (rfl) (sS (σ) 24 ((3))) rfl (by simp only [mSetRule, if_pos c_7, if_pos c_20, if_neg c_31, if_true, if_false]) hlocks dX3_setRule_50
    · skip
      refine lv_iconst (v := 2) hC.1 hC.2.1 dX3_setRule_23 (by decide) ?_
      refine lv_goto (tgt := 39) hC.1 hC.2.1 dX3_setRule_24 (by decide) ?_
      refine m_puts hC hE hG 24 (by decide) q780 dX3_setRule_39 (fun H locs hG => ?_)
      refine lv_aload_n hC.1 hC.2.1 dX3_setRule_42 rfl (lv_at hl 0 rfl) ?_
      refine m_gets hC hE hG 24 (by decide) (fun _ => rfl) (v := (2)) (rfl) q780 rfl dX3_setRule_43 ?_
      refine lv_if_le (tgt := 51) hC.1 hC.2.1 dX3_setRule_46 (by decide) (fun c_46 => absurd c_46 (by decide)) (fun c_46 => ?_)
      refine lv_iconst (v := 0) hC.1 hC.2.1 dX3_setRule_49 (by decide) ?_
      exact g_iret hC hG hr (rfl) (sS (σ) 24 ((2))) rfl (by simp only [mSetRule, if_pos c_7, if_neg c_20, if_true, if_false]) hlocks dX3_setRule_50
  · skip
    refine lv_iconst (v := 1) hC.1 hC.2.1 dX3_setRule_10 (by decide) ?_
    refine lv_goto (tgt := 39) hC.1 hC.2.1 dX3_setRule_11 (by decide) ?_
    refine m_puts hC hE hG 24 (by decide) q780 dX3_setRule_39 (fun H locs hG => ?_)
    refine lv_aload_n hC.1 hC.2.1 dX3_setRule_42 rfl (lv_at hl 0 rfl) ?_
    refine m_gets hC hE hG 24 (by decide) (fun _ => rfl) (v := (1)) (rfl) q780 rfl dX3_setRule_43 ?_
    refine lv_if_le (tgt := 51) hC.1 hC.2.1 dX3_setRule_46 (by decide) (fun c_46 => absurd c_46 (by decide)) (fun c_46 => ?_)
    refine lv_iconst (v := 0) hC.1 hC.2.1 dX3_setRule_49 (by decide) ?_
    exact g_iret hC hG hr (rfl) (sS (σ) 24 ((1))) rfl (by simp only [mSetRule, if_neg c_7, if_true, if_false]) hlocks dX3_setRule_50
set_option maxHeartbeats 4000000 in
theorem mt_key (l : Launch) (K : GK) (A : Nat → Prop) (G0 : GM) (h : Nat → Nat) (σ : MS) (a b : Int32) : Met l yX3_key (ws_ yX3_key cX3_key 4 (some .int)) ({ frames := 1, cells := 0, slots := 0, locals := 22 }) (va_Pc ([.ref (h 25), .int (a), .int (b)]) (gW K A (mput K.2.1 h (σ) G0))) (va_Qi (fun (r9 : Int32) (u9 : MS) => (r9, u9) = mKey σ a b) (fun u t => gB K A (mput K.2.1 h u G0) t) A) 0 0 (A) := by
  refine g_ofW (cc := cX3_key) (by decide) (own := RX3) rfl (Nat.le_of_ble_eq_true rfl) ?_
  intro p e s m below meth c hC hr hlocks hnm hE hG ls hl
  have hl : lv_has ls 4 [(0, .ref (h 25)), (1, .int (a)), (2, .int (b))] := hl
  refine lv_aload_n hC.1 hC.2.1 dX3_key_0 rfl (lv_at hl 0 rfl) ?_
  refine lv_iload_n hC.1 hC.2.1 dX3_key_1 rfl (lv_at hl 1 rfl) ?_
  refine lv_iconst (v := 0) hC.1 hC.2.1 dX3_key_2 (by decide) ?_
  refine lv_iconst (v := 2) hC.1 hC.2.1 dX3_key_3 (by decide) ?_
  refine g_sP (As := [.int (a), .int ((0)), .int ((2))]) (rest := [.ref (h 25)]) hC (mt_in l (a) ((0)) ((2))) (va_cwS 3 hC.2.2.2.2 (lw_S q840 q841 q26 q842) rfl rfl rfl (by decide +kernel) ⟨Nat.le_of_ble_eq_true rfl, Nat.le_of_ble_eq_true rfl⟩) rfl hl.1 rfl (Nat.le_of_ble_eq_true rfl) dX3_key_4 ⟨Nat.le_of_ble_eq_true rfl, Nat.le_of_ble_eq_true rfl⟩ (fun r hr9 => ?_)
  subst hr9
  refine b_ne (tgt := 14) hC dX3_key_7 (by decide) (fun c_7 => ?_) (fun c_7 => ?_)
  · skip
    refine lv_iload_n hC.1 hC.2.1 dX3_key_14 rfl (lv_at hl 2 rfl) ?_
    refine lv_iconst (v := -1) hC.1 hC.2.1 dX3_key_15 (by decide) ?_
    refine lv_bipush (v := 49) hC.1 hC.2.1 dX3_key_16 (by decide) ?_
    refine g_sP (As := [.int (b), .int ((-1)), .int ((49))]) (rest := [.ref (h 25)]) hC (mt_in l (b) ((-1)) ((49))) (va_cwS 3 hC.2.2.2.2 (lw_S q840 q841 q26 q842) rfl rfl rfl (by decide +kernel) ⟨Nat.le_of_ble_eq_true rfl, Nat.le_of_ble_eq_true rfl⟩) rfl hl.1 rfl (Nat.le_of_ble_eq_true rfl) dX3_key_18 ⟨Nat.le_of_ble_eq_true rfl, Nat.le_of_ble_eq_true rfl⟩ (fun r hr9 => ?_)
    subst hr9
    refine b_ne (tgt := 28) hC dX3_key_21 (by decide) (fun c_21 => ?_) (fun c_21 => ?_)
    · skip
      refine lv_iconst (v := 0) hC.1 hC.2.1 dX3_key_28 (by decide) ?_
      refine m_puts hC hE hG 24 (by decide) q780 dX3_key_29 (fun H locs hG => ?_)
      refine lv_aload_n hC.1 hC.2.1 dX3_key_32 rfl (lv_at hl 0 rfl) ?_
      refine m_gets hC hE hG 24 (by decide) (fun _ => rfl) (v := (0)) (rfl) q780 rfl dX3_key_33 ?_
      refine lv_if_le (tgt := 41) hC.1 hC.2.1 dX3_key_36 (by decide) (fun c_36 => ?_) (fun c_36 => absurd c_36 (by decide))
      refine lv_aload_n hC.1 hC.2.1 dX3_key_41 rfl (lv_at hl 0 rfl) ?_
      refine m_geta hC hE hG 3 (by decide) (fun _ => rfl) q759 rfl dX3_key_42 ?_
      refine lv_iload_n hC.1 hC.2.1 dX3_key_45 rfl (lv_at hl 1 rfl) ?_
      refine m_iald hC hE hG 3 (by decide) rfl (N := 3) rfl (i := a) (v := σ.2 3 (tN (a))) (inR_in c_7 (by decide) rfl) (rfl) dX3_key_46 ?_
      refine lv_istore_n (lv' := [(3, .int (σ.2 3 (tN (a)))), (0, .ref (h 25)), (1, .int (a)), (2, .int (b))]) hC.1 hC.2.1 dX3_key_47 rfl hl (by decide) rfl (fun ls hl => ?_)
      refine lv_aload_n hC.1 hC.2.1 dX3_key_48 rfl (lv_at hl 1 rfl) ?_
      refine m_geta hC hE hG 3 (by decide) (fun _ => rfl) q759 rfl dX3_key_49 ?_
      refine lv_iload_n hC.1 hC.2.1 dX3_key_52 rfl (lv_at hl 2 rfl) ?_
      refine lv_iload_n hC.1 hC.2.1 dX3_key_53 rfl (lv_at hl 3 rfl) ?_
      refine m_iast hC hE hG 3 (by decide) rfl (N := 3) rfl (i := a) (inR_in c_7 (by decide) rfl) dX3_key_54 (fun H locs hG => ?_)
      refine lv_iload_n hC.1 hC.2.1 dX3_key_55 rfl (lv_at hl 0 rfl) ?_
      exact g_iret hC hG hr (rfl) (sU (sS (σ) 24 ((0))) 3 (tN (a)) (b)) rfl (by simp only [mKey, if_pos c_7, if_pos c_21, if_true, if_false]) hlocks dX3_key_56
    · skip
      refine lv_iconst (v := 2) hC.1 hC.2.1 dX3_key_24 (by decide) ?_
      refine lv_goto (tgt := 29) hC.1 hC.2.1 dX3_key_25 (by decide) ?_
      refine m_puts hC hE hG 24 (by decide) q780 dX3_key_29 (fun H locs hG => ?_)
      refine lv_aload_n hC.1 hC.2.1 dX3_key_32 rfl (lv_at hl 0 rfl) ?_
      refine m_gets hC hE hG 24 (by decide) (fun _ => rfl) (v := (2)) (rfl) q780 rfl dX3_key_33 ?_
      refine lv_if_le (tgt := 41) hC.1 hC.2.1 dX3_key_36 (by decide) (fun c_36 => absurd c_36 (by decide)) (fun c_36 => ?_)
      refine lv_iconst (v := 0) hC.1 hC.2.1 dX3_key_39 (by decide) ?_
      exact g_iret hC hG hr (rfl) (sS (σ) 24 ((2))) rfl (by simp only [mKey, if_pos c_7, if_neg c_21, if_true, if_false]) hlocks dX3_key_40
  · skip
    refine lv_iconst (v := 1) hC.1 hC.2.1 dX3_key_10 (by decide) ?_
    refine lv_goto (tgt := 29) hC.1 hC.2.1 dX3_key_11 (by decide) ?_
    refine m_puts hC hE hG 24 (by decide) q780 dX3_key_29 (fun H locs hG => ?_)
    refine lv_aload_n hC.1 hC.2.1 dX3_key_32 rfl (lv_at hl 0 rfl) ?_
    refine m_gets hC hE hG 24 (by decide) (fun _ => rfl) (v := (1)) (rfl) q780 rfl dX3_key_33 ?_
    refine lv_if_le (tgt := 41) hC.1 hC.2.1 dX3_key_36 (by decide) (fun c_36 => absurd c_36 (by decide)) (fun c_36 => ?_)
    refine lv_iconst (v := 0) hC.1 hC.2.1 dX3_key_39 (by decide) ?_
    exact g_iret hC hG hr (rfl) (sS (σ) 24 ((1))) rfl (by simp only [mKey, if_neg c_7, if_true, if_false]) hlocks dX3_key_40
set_option maxHeartbeats 4000000 in
theorem mt_field (l : Launch) (K : GK) (A : Nat → Prop) (G0 : GM) (h : Nat → Nat) (σ : MS) (a b : Int32) : Met l yX3_field (ws_ yX3_field cX3_field 4 (some .int)) ({ frames := 1, cells := 0, slots := 0, locals := 22 }) (va_Pc ([.ref (h 25), .int (a), .int (b)]) (gW K A (mput K.2.1 h (σ) G0))) (va_Qi (fun (r9 : Int32) (u9 : MS) => (r9, u9) = mField σ a b) (fun u t => gB K A (mput K.2.1 h u G0) t) A) 0 0 (A) := by
  refine g_ofW (cc := cX3_field) (by decide) (own := RX3) rfl (Nat.le_of_ble_eq_true rfl) ?_
  intro p e s m below meth c hC hr hlocks hnm hE hG ls hl
  have hl : lv_has ls 4 [(0, .ref (h 25)), (1, .int (a)), (2, .int (b))] := hl
  refine lv_aload_n hC.1 hC.2.1 dX3_field_0 rfl (lv_at hl 0 rfl) ?_
  refine lv_iload_n hC.1 hC.2.1 dX3_field_1 rfl (lv_at hl 1 rfl) ?_
  refine lv_iconst (v := 0) hC.1 hC.2.1 dX3_field_2 (by decide) ?_
  refine lv_iconst (v := 3) hC.1 hC.2.1 dX3_field_3 (by decide) ?_
  refine g_sP (As := [.int (a), .int ((0)), .int ((3))]) (rest := [.ref (h 25)]) hC (mt_in l (a) ((0)) ((3))) (va_cwS 3 hC.2.2.2.2 (lw_S q840 q841 q26 q842) rfl rfl rfl (by decide +kernel) ⟨Nat.le_of_ble_eq_true rfl, Nat.le_of_ble_eq_true rfl⟩) rfl hl.1 rfl (Nat.le_of_ble_eq_true rfl) dX3_field_4 ⟨Nat.le_of_ble_eq_true rfl, Nat.le_of_ble_eq_true rfl⟩ (fun r hr9 => ?_)
  subst hr9
  refine b_ne (tgt := 14) hC dX3_field_7 (by decide) (fun c_7 => ?_) (fun c_7 => ?_)
  · skip
    refine lv_iload_n hC.1 hC.2.1 dX3_field_14 rfl (lv_at hl 2 rfl) ?_
    refine lv_iconst (v := -1) hC.1 hC.2.1 dX3_field_15 (by decide) ?_
    refine lv_bipush (v := 99) hC.1 hC.2.1 dX3_field_16 (by decide) ?_
    refine g_sP (As := [.int (b), .int ((-1)), .int ((99))]) (rest := [.ref (h 25)]) hC (mt_in l (b) ((-1)) ((99))) (va_cwS 3 hC.2.2.2.2 (lw_S q840 q841 q26 q842) rfl rfl rfl (by decide +kernel) ⟨Nat.le_of_ble_eq_true rfl, Nat.le_of_ble_eq_true rfl⟩) rfl hl.1 rfl (Nat.le_of_ble_eq_true rfl) dX3_field_18 ⟨Nat.le_of_ble_eq_true rfl, Nat.le_of_ble_eq_true rfl⟩ (fun r hr9 => ?_)
    subst hr9
    refine b_ne (tgt := 28) hC dX3_field_21 (by decide) (fun c_21 => ?_) (fun c_21 => ?_)
    · skip
      refine lv_iconst (v := 0) hC.1 hC.2.1 dX3_field_28 (by decide) ?_
      refine m_puts hC hE hG 24 (by decide) q780 dX3_field_29 (fun H locs hG => ?_)
      refine lv_aload_n hC.1 hC.2.1 dX3_field_32 rfl (lv_at hl 0 rfl) ?_
      refine m_gets hC hE hG 24 (by decide) (fun _ => rfl) (v := (0)) (rfl) q780 rfl dX3_field_33 ?_
      refine lv_if_le (tgt := 41) hC.1 hC.2.1 dX3_field_36 (by decide) (fun c_36 => ?_) (fun c_36 => absurd c_36 (by decide))
      refine lv_aload_n hC.1 hC.2.1 dX3_field_41 rfl (lv_at hl 0 rfl) ?_
      refine m_geta hC hE hG 4 (by decide) (fun _ => rfl) q760 rfl dX3_field_42 ?_
      refine lv_iload_n hC.1 hC.2.1 dX3_field_45 rfl (lv_at hl 1 rfl) ?_
      refine m_iald hC hE hG 4 (by decide) rfl (N := 4) rfl (i := a) (v := σ.2 4 (tN (a))) (inR_in c_7 (by decide) rfl) (rfl) dX3_field_46 ?_
      refine lv_istore_n (lv' := [(3, .int (σ.2 4 (tN (a)))), (0, .ref (h 25)), (1, .int (a)), (2, .int (b))]) hC.1 hC.2.1 dX3_field_47 rfl hl (by decide) rfl (fun ls hl => ?_)
      refine lv_aload_n hC.1 hC.2.1 dX3_field_48 rfl (lv_at hl 1 rfl) ?_
      refine m_geta hC hE hG 4 (by decide) (fun _ => rfl) q760 rfl dX3_field_49 ?_
      refine lv_iload_n hC.1 hC.2.1 dX3_field_52 rfl (lv_at hl 2 rfl) ?_
      refine lv_iload_n hC.1 hC.2.1 dX3_field_53 rfl (lv_at hl 3 rfl) ?_
      refine m_iast hC hE hG 4 (by decide) rfl (N := 4) rfl (i := a) (inR_in c_7 (by decide) rfl) dX3_field_54 (fun H locs hG => ?_)
      refine lv_iload_n hC.1 hC.2.1 dX3_field_55 rfl (lv_at hl 0 rfl) ?_
      exact g_iret hC hG hr (rfl) (sU (sS (σ) 24 ((0))) 4 (tN (a)) (b)) rfl (by simp only [mField, if_pos c_7, if_pos c_21, if_true, if_false]) hlocks dX3_field_56
    · skip
      refine lv_iconst (v := 2) hC.1 hC.2.1 dX3_field_24 (by decide) ?_
      refine lv_goto (tgt := 29) hC.1 hC.2.1 dX3_field_25 (by decide) ?_
      refine m_puts hC hE hG 24 (by decide) q780 dX3_field_29 (fun H locs hG => ?_)
      refine lv_aload_n hC.1 hC.2.1 dX3_field_32 rfl (lv_at hl 0 rfl) ?_
      refine m_gets hC hE hG 24 (by decide) (fun _ => rfl) (v := (2)) (rfl) q780 rfl dX3_field_33 ?_
      refine lv_if_le (tgt := 41) hC.1 hC.2.1 dX3_field_36 (by decide) (fun c_36 => absurd c_36 (by decide)) (fun c_36 => ?_)
      refine lv_iconst (v := 0) hC.1 hC.2.1 dX3_field_39 (by decide) ?_
      exact g_iret hC hG hr (rfl) (sS (σ) 24 ((2))) rfl (by simp only [mField, if_pos c_7, if_neg c_21, if_true, if_false]) hlocks dX3_field_40
  · skip
    refine lv_iconst (v := 1) hC.1 hC.2.1 dX3_field_10 (by decide) ?_
    refine lv_goto (tgt := 29) hC.1 hC.2.1 dX3_field_11 (by decide) ?_
    refine m_puts hC hE hG 24 (by decide) q780 dX3_field_29 (fun H locs hG => ?_)
    refine lv_aload_n hC.1 hC.2.1 dX3_field_32 rfl (lv_at hl 0 rfl) ?_
    refine m_gets hC hE hG 24 (by decide) (fun _ => rfl) (v := (1)) (rfl) q780 rfl dX3_field_33 ?_
    refine lv_if_le (tgt := 41) hC.1 hC.2.1 dX3_field_36 (by decide) (fun c_36 => absurd c_36 (by decide)) (fun c_36 => ?_)
    refine lv_iconst (v := 0) hC.1 hC.2.1 dX3_field_39 (by decide) ?_
    exact g_iret hC hG hr (rfl) (sS (σ) 24 ((1))) rfl (by simp only [mField, if_neg c_7, if_true, if_false]) hlocks dX3_field_40
set_option maxHeartbeats 4000000 in
theorem mt_setOrder (l : Launch) (K : GK) (A : Nat → Prop) (G0 : GM) (h : Nat → Nat) (σ : MS) (a b d : Int32) : Met l yX3_setOrder (ws_ yX3_setOrder cX3_setOrder 5 none) ({ frames := 1, cells := 0, slots := 0, locals := 22 }) (va_Pc ([.ref (h 25), .int (a), .int (b), .int (d)]) (gW K A (mput K.2.1 h (σ) G0))) (va_Qv (fun u9 : MS => u9 = mSetOrder σ a b d) (fun u t => gB K A (mput K.2.1 h u G0) t) A) 0 0 (A) := by
  refine g_ofW (cc := cX3_setOrder) (by decide) (own := RX3) rfl (Nat.le_of_ble_eq_true rfl) ?_
  intro p e s m below meth c hC hr hlocks hnm hE hG ls hl
  have hl : lv_has ls 5 [(0, .ref (h 25)), (1, .int (a)), (2, .int (b)), (3, .int (d))] := hl
  refine lv_iload_n hC.1 hC.2.1 dX3_setOrder_0 rfl (lv_at hl 1 rfl) ?_
  refine lv_iconst (v := 0) hC.1 hC.2.1 dX3_setOrder_1 (by decide) ?_
  refine lv_iconst (v := 2) hC.1 hC.2.1 dX3_setOrder_2 (by decide) ?_
  refine g_sP (As := [.int (a), .int ((0)), .int ((2))]) (rest := []) hC (mt_in l (a) ((0)) ((2))) (va_cwS 3 hC.2.2.2.2 (lw_S q840 q841 q26 q842) rfl rfl rfl (by decide +kernel) ⟨Nat.le_of_ble_eq_true rfl, Nat.le_of_ble_eq_true rfl⟩) rfl hl.1 rfl (Nat.le_of_ble_eq_true rfl) dX3_setOrder_3 ⟨Nat.le_of_ble_eq_true rfl, Nat.le_of_ble_eq_true rfl⟩ (fun r hr9 => ?_)
  subst hr9
  refine b_eq (tgt := 46) hC dX3_setOrder_6 (by decide) (fun c_6 => ?_) (fun c_6 => ?_)
  · skip
    refine lv_iconst (v := 0) hC.1 hC.2.1 dX3_setOrder_46 (by decide) ?_
    refine lv_istore (lv' := [(4, .int ((0))), (0, .ref (h 25)), (1, .int (a)), (2, .int (b)), (3, .int (d))]) hC.1 hC.2.1 dX3_setOrder_47 hl (by decide) rfl (fun ls hl => ?_)
    refine lv_aload_n hC.1 hC.2.1 dX3_setOrder_49 rfl (lv_at hl 1 rfl) ?_
    refine lv_iload hC.1 hC.2.1 dX3_setOrder_50 (lv_at hl 0 rfl) ?_
    refine lv_if_ne (tgt := 59) hC.1 hC.2.1 dX3_setOrder_52 (by decide) (fun c_52 => absurd c_52 (by decide)) (fun c_52 => ?_)
    refine lv_iconst (v := 1) hC.1 hC.2.1 dX3_setOrder_55 (by decide) ?_
    refine lv_goto (tgt := 71) hC.1 hC.2.1 dX3_setOrder_56 (by decide) ?_
    refine m_puts hC hE hG 24 (by decide) q780 dX3_setOrder_71 (fun H locs hG => ?_)
    refine lv_aload_n hC.1 hC.2.1 dX3_setOrder_74 rfl (lv_at hl 1 rfl) ?_
    refine m_gets hC hE hG 24 (by decide) (fun _ => rfl) (v := (1)) (rfl) q780 rfl dX3_setOrder_75 ?_
    refine lv_if_ne (tgt := 102) hC.1 hC.2.1 dX3_setOrder_78 (by decide) (fun c_78 => ?_) (fun c_78 => absurd c_78 (by decide))
    exact g_vret hC hG hr (sS (σ) 24 ((1))) rfl (by simp only [mSetOrder, if_neg (show ¬ okO a b d from fun q => c_6 q.1)]) hlocks dX3_setOrder_102
  · skip
    refine lv_iload_n hC.1 hC.2.1 dX3_setOrder_9 rfl (lv_at hl 2 rfl) ?_
    refine lv_iconst (v := 0) hC.1 hC.2.1 dX3_setOrder_10 (by decide) ?_
    refine lv_iconst (v := 2) hC.1 hC.2.1 dX3_setOrder_11 (by decide) ?_
    refine g_sP (As := [.int (b), .int ((0)), .int ((2))]) (rest := []) hC (mt_in l (b) ((0)) ((2))) (va_cwS 3 hC.2.2.2.2 (lw_S q840 q841 q26 q842) rfl rfl rfl (by decide +kernel) ⟨Nat.le_of_ble_eq_true rfl, Nat.le_of_ble_eq_true rfl⟩) rfl hl.1 rfl (Nat.le_of_ble_eq_true rfl) dX3_setOrder_12 ⟨Nat.le_of_ble_eq_true rfl, Nat.le_of_ble_eq_true rfl⟩ (fun r hr9 => ?_)
    subst hr9
    refine b_eq (tgt := 46) hC dX3_setOrder_15 (by decide) (fun c_15 => ?_) (fun c_15 => ?_)
    · skip
      refine lv_iconst (v := 0) hC.1 hC.2.1 dX3_setOrder_46 (by decide) ?_
      refine lv_istore (lv' := [(4, .int ((0))), (0, .ref (h 25)), (1, .int (a)), (2, .int (b)), (3, .int (d))]) hC.1 hC.2.1 dX3_setOrder_47 hl (by decide) rfl (fun ls hl => ?_)
      refine lv_aload_n hC.1 hC.2.1 dX3_setOrder_49 rfl (lv_at hl 1 rfl) ?_
      refine lv_iload hC.1 hC.2.1 dX3_setOrder_50 (lv_at hl 0 rfl) ?_
      refine lv_if_ne (tgt := 59) hC.1 hC.2.1 dX3_setOrder_52 (by decide) (fun c_52 => absurd c_52 (by decide)) (fun c_52 => ?_)
      refine lv_iconst (v := 1) hC.1 hC.2.1 dX3_setOrder_55 (by decide) ?_
      refine lv_goto (tgt := 71) hC.1 hC.2.1 dX3_setOrder_56 (by decide) ?_
      refine m_puts hC hE hG 24 (by decide) q780 dX3_setOrder_71 (fun H locs hG => ?_)
      refine lv_aload_n hC.1 hC.2.1 dX3_setOrder_74 rfl (lv_at hl 1 rfl) ?_
      refine m_gets hC hE hG 24 (by decide) (fun _ => rfl) (v := (1)) (rfl) q780 rfl dX3_setOrder_75 ?_
      refine lv_if_ne (tgt := 102) hC.1 hC.2.1 dX3_setOrder_78 (by decide) (fun c_78 => ?_) (fun c_78 => absurd c_78 (by decide))
      exact g_vret hC hG hr (sS (σ) 24 ((1))) rfl (by simp only [mSetOrder, if_neg (show ¬ okO a b d from fun q => c_15 q.2.1)]) hlocks dX3_setOrder_102
    · skip
      refine lv_iload_n hC.1 hC.2.1 dX3_setOrder_18 rfl (lv_at hl 3 rfl) ?_
      refine lv_iconst (v := 0) hC.1 hC.2.1 dX3_setOrder_19 (by decide) ?_
      refine lv_iconst (v := 2) hC.1 hC.2.1 dX3_setOrder_20 (by decide) ?_
      refine g_sP (As := [.int (d), .int ((0)), .int ((2))]) (rest := []) hC (mt_in l (d) ((0)) ((2))) (va_cwS 3 hC.2.2.2.2 (lw_S q840 q841 q26 q842) rfl rfl rfl (by decide +kernel) ⟨Nat.le_of_ble_eq_true rfl, Nat.le_of_ble_eq_true rfl⟩) rfl hl.1 rfl (Nat.le_of_ble_eq_true rfl) dX3_setOrder_21 ⟨Nat.le_of_ble_eq_true rfl, Nat.le_of_ble_eq_true rfl⟩ (fun r hr9 => ?_)
      subst hr9
      refine b_eq (tgt := 46) hC dX3_setOrder_24 (by decide) (fun c_24 => ?_) (fun c_24 => ?_)
      · skip
        refine lv_iconst (v := 0) hC.1 hC.2.1 dX3_setOrder_46 (by decide) ?_
        refine lv_istore (lv' := [(4, .int ((0))), (0, .ref (h 25)), (1, .int (a)), (2, .int (b)), (3, .int (d))]) hC.1 hC.2.1 dX3_setOrder_47 hl (by decide) rfl (fun ls hl => ?_)
        refine lv_aload_n hC.1 hC.2.1 dX3_setOrder_49 rfl (lv_at hl 1 rfl) ?_
        refine lv_iload hC.1 hC.2.1 dX3_setOrder_50 (lv_at hl 0 rfl) ?_
        refine lv_if_ne (tgt := 59) hC.1 hC.2.1 dX3_setOrder_52 (by decide) (fun c_52 => absurd c_52 (by decide)) (fun c_52 => ?_)
        refine lv_iconst (v := 1) hC.1 hC.2.1 dX3_setOrder_55 (by decide) ?_
        refine lv_goto (tgt := 71) hC.1 hC.2.1 dX3_setOrder_56 (by decide) ?_
        refine m_puts hC hE hG 24 (by decide) q780 dX3_setOrder_71 (fun H locs hG => ?_)
        refine lv_aload_n hC.1 hC.2.1 dX3_setOrder_74 rfl (lv_at hl 1 rfl) ?_
        refine m_gets hC hE hG 24 (by decide) (fun _ => rfl) (v := (1)) (rfl) q780 rfl dX3_setOrder_75 ?_
        refine lv_if_ne (tgt := 102) hC.1 hC.2.1 dX3_setOrder_78 (by decide) (fun c_78 => ?_) (fun c_78 => absurd c_78 (by decide))
        exact g_vret hC hG hr (sS (σ) 24 ((1))) rfl (by simp only [mSetOrder, if_neg (show ¬ okO a b d from fun q => c_24 q.2.2.1)]) hlocks dX3_setOrder_102
      · skip
        refine lv_iload_n hC.1 hC.2.1 dX3_setOrder_27 rfl (lv_at hl 1 rfl) ?_
        refine lv_iload_n hC.1 hC.2.1 dX3_setOrder_28 rfl (lv_at hl 2 rfl) ?_
        refine lv_icmp_eq (tgt := 46) hC.1 hC.2.1 dX3_setOrder_29 (by decide) (fun c_29 => ?_) (fun c_29 => ?_)
        · skip
          refine lv_iconst (v := 0) hC.1 hC.2.1 dX3_setOrder_46 (by decide) ?_
          refine lv_istore (lv' := [(4, .int ((0))), (0, .ref (h 25)), (1, .int (a)), (2, .int (b)), (3, .int (d))]) hC.1 hC.2.1 dX3_setOrder_47 hl (by decide) rfl (fun ls hl => ?_)
          refine lv_aload_n hC.1 hC.2.1 dX3_setOrder_49 rfl (lv_at hl 1 rfl) ?_
          refine lv_iload hC.1 hC.2.1 dX3_setOrder_50 (lv_at hl 0 rfl) ?_
          refine lv_if_ne (tgt := 59) hC.1 hC.2.1 dX3_setOrder_52 (by decide) (fun c_52 => absurd c_52 (by decide)) (fun c_52 => ?_)
          refine lv_iconst (v := 1) hC.1 hC.2.1 dX3_setOrder_55 (by decide) ?_
          refine lv_goto (tgt := 71) hC.1 hC.2.1 dX3_setOrder_56 (by decide) ?_
          refine m_puts hC hE hG 24 (by decide) q780 dX3_setOrder_71 (fun H locs hG => ?_)
          refine lv_aload_n hC.1 hC.2.1 dX3_setOrder_74 rfl (lv_at hl 1 rfl) ?_
          refine m_gets hC hE hG 24 (by decide) (fun _ => rfl) (v := (1)) (rfl) q780 rfl dX3_setOrder_75 ?_
          refine lv_if_ne (tgt := 102) hC.1 hC.2.1 dX3_setOrder_78 (by decide) (fun c_78 => ?_) (fun c_78 => absurd c_78 (by decide))
          exact g_vret hC hG hr (sS (σ) 24 ((1))) rfl (by simp only [mSetOrder, if_neg (show ¬ okO a b d from fun q => q.2.2.2.1 c_29)]) hlocks dX3_setOrder_102
        · skip
          refine lv_iload_n hC.1 hC.2.1 dX3_setOrder_32 rfl (lv_at hl 1 rfl) ?_
          refine lv_iload_n hC.1 hC.2.1 dX3_setOrder_33 rfl (lv_at hl 3 rfl) ?_
          refine lv_icmp_eq (tgt := 46) hC.1 hC.2.1 dX3_setOrder_34 (by decide) (fun c_34 => ?_) (fun c_34 => ?_)
          · skip
            refine lv_iconst (v := 0) hC.1 hC.2.1 dX3_setOrder_46 (by decide) ?_
            refine lv_istore (lv' := [(4, .int ((0))), (0, .ref (h 25)), (1, .int (a)), (2, .int (b)), (3, .int (d))]) hC.1 hC.2.1 dX3_setOrder_47 hl (by decide) rfl (fun ls hl => ?_)
            refine lv_aload_n hC.1 hC.2.1 dX3_setOrder_49 rfl (lv_at hl 1 rfl) ?_
            refine lv_iload hC.1 hC.2.1 dX3_setOrder_50 (lv_at hl 0 rfl) ?_
            refine lv_if_ne (tgt := 59) hC.1 hC.2.1 dX3_setOrder_52 (by decide) (fun c_52 => absurd c_52 (by decide)) (fun c_52 => ?_)
            refine lv_iconst (v := 1) hC.1 hC.2.1 dX3_setOrder_55 (by decide) ?_
            refine lv_goto (tgt := 71) hC.1 hC.2.1 dX3_setOrder_56 (by decide) ?_
            refine m_puts hC hE hG 24 (by decide) q780 dX3_setOrder_71 (fun H locs hG => ?_)
            refine lv_aload_n hC.1 hC.2.1 dX3_setOrder_74 rfl (lv_at hl 1 rfl) ?_
            refine m_gets hC hE hG 24 (by decide) (fun _ => rfl) (v := (1)) (rfl) q780 rfl dX3_setOrder_75 ?_
            refine lv_if_ne (tgt := 102) hC.1 hC.2.1 dX3_setOrder_78 (by decide) (fun c_78 => ?_) (fun c_78 => absurd c_78 (by decide))
            exact g_vret hC hG hr (sS (σ) 24 ((1))) rfl (by simp only [mSetOrder, if_neg (show ¬ okO a b d from fun q => q.2.2.2.2.1 c_34)]) hlocks dX3_setOrder_102
          · skip
            refine lv_iload_n hC.1 hC.2.1 dX3_setOrder_37 rfl (lv_at hl 2 rfl) ?_
            refine lv_iload_n hC.1 hC.2.1 dX3_setOrder_38 rfl (lv_at hl 3 rfl) ?_
            refine lv_icmp_eq (tgt := 46) hC.1 hC.2.1 dX3_setOrder_39 (by decide) (fun c_39 => ?_) (fun c_39 => ?_)
            · skip
              refine lv_iconst (v := 0) hC.1 hC.2.1 dX3_setOrder_46 (by decide) ?_
              refine lv_istore (lv' := [(4, .int ((0))), (0, .ref (h 25)), (1, .int (a)), (2, .int (b)), (3, .int (d))]) hC.1 hC.2.1 dX3_setOrder_47 hl (by decide) rfl (fun ls hl => ?_)
              refine lv_aload_n hC.1 hC.2.1 dX3_setOrder_49 rfl (lv_at hl 1 rfl) ?_
              refine lv_iload hC.1 hC.2.1 dX3_setOrder_50 (lv_at hl 0 rfl) ?_
              refine lv_if_ne (tgt := 59) hC.1 hC.2.1 dX3_setOrder_52 (by decide) (fun c_52 => absurd c_52 (by decide)) (fun c_52 => ?_)
              refine lv_iconst (v := 1) hC.1 hC.2.1 dX3_setOrder_55 (by decide) ?_
              refine lv_goto (tgt := 71) hC.1 hC.2.1 dX3_setOrder_56 (by decide) ?_
              refine m_puts hC hE hG 24 (by decide) q780 dX3_setOrder_71 (fun H locs hG => ?_)
              refine lv_aload_n hC.1 hC.2.1 dX3_setOrder_74 rfl (lv_at hl 1 rfl) ?_
              refine m_gets hC hE hG 24 (by decide) (fun _ => rfl) (v := (1)) (rfl) q780 rfl dX3_setOrder_75 ?_
              refine lv_if_ne (tgt := 102) hC.1 hC.2.1 dX3_setOrder_78 (by decide) (fun c_78 => ?_) (fun c_78 => absurd c_78 (by decide))
              exact g_vret hC hG hr (sS (σ) 24 ((1))) rfl (by simp only [mSetOrder, if_neg (show ¬ okO a b d from fun q => q.2.2.2.2.2 c_39)]) hlocks dX3_setOrder_102
            · skip
              refine lv_iconst (v := 1) hC.1 hC.2.1 dX3_setOrder_42 (by decide) ?_
              refine lv_goto (tgt := 47) hC.1 hC.2.1 dX3_setOrder_43 (by decide) ?_
              refine lv_istore (lv' := [(4, .int ((1))), (0, .ref (h 25)), (1, .int (a)), (2, .int (b)), (3, .int (d))]) hC.1 hC.2.1 dX3_setOrder_47 hl (by decide) rfl (fun ls hl => ?_)
              refine lv_aload_n hC.1 hC.2.1 dX3_setOrder_49 rfl (lv_at hl 1 rfl) ?_
              refine lv_iload hC.1 hC.2.1 dX3_setOrder_50 (lv_at hl 0 rfl) ?_
              refine lv_if_ne (tgt := 59) hC.1 hC.2.1 dX3_setOrder_52 (by decide) (fun c_52 => ?_) (fun c_52 => absurd c_52 (by decide))
              refine lv_aload_n hC.1 hC.2.1 dX3_setOrder_59 rfl (lv_at hl 1 rfl) ?_
              refine m_gets hC hE hG 7 (by decide) (fun _ => rfl) (v := σ.1 7) (rfl) q763 rfl dX3_setOrder_60 ?_
              refine lv_if_le (tgt := 70) hC.1 hC.2.1 dX3_setOrder_63 (by decide) (fun c_63 => ?_) (fun c_63 => ?_)
              · skip
                refine lv_iconst (v := 0) hC.1 hC.2.1 dX3_setOrder_70 (by decide) ?_
                refine m_puts hC hE hG 24 (by decide) q780 dX3_setOrder_71 (fun H locs hG => ?_)
                refine lv_aload_n hC.1 hC.2.1 dX3_setOrder_74 rfl (lv_at hl 1 rfl) ?_
                refine m_gets hC hE hG 24 (by decide) (fun _ => rfl) (v := (0)) (rfl) q780 rfl dX3_setOrder_75 ?_
                refine lv_if_ne (tgt := 102) hC.1 hC.2.1 dX3_setOrder_78 (by decide) (fun c_78 => absurd c_78 (by decide)) (fun c_78 => ?_)
                refine lv_aload_n hC.1 hC.2.1 dX3_setOrder_81 rfl (lv_at hl 1 rfl) ?_
                refine m_geta hC hE hG 2 (by decide) (fun _ => rfl) q758 rfl dX3_setOrder_82 ?_
                refine lv_iconst (v := 0) hC.1 hC.2.1 dX3_setOrder_85 (by decide) ?_
                refine lv_iload_n hC.1 hC.2.1 dX3_setOrder_86 rfl (lv_at hl 2 rfl) ?_
                refine m_ist hC hE hG 2 (by decide) rfl (N := 3) rfl (by decide) (j := 0) (by omega) dX3_setOrder_87 (fun H locs hG => ?_)
                refine lv_aload_n hC.1 hC.2.1 dX3_setOrder_88 rfl (lv_at hl 1 rfl) ?_
                refine m_geta hC hE hG 2 (by decide) (fun _ => rfl) q758 rfl dX3_setOrder_89 ?_
                refine lv_iconst (v := 1) hC.1 hC.2.1 dX3_setOrder_92 (by decide) ?_
                refine lv_iload_n hC.1 hC.2.1 dX3_setOrder_93 rfl (lv_at hl 3 rfl) ?_
                refine m_ist hC hE hG 2 (by decide) rfl (N := 3) rfl (by decide) (j := 1) (by omega) dX3_setOrder_94 (fun H locs hG => ?_)
                refine lv_aload_n hC.1 hC.2.1 dX3_setOrder_95 rfl (lv_at hl 1 rfl) ?_
                refine m_geta hC hE hG 2 (by decide) (fun _ => rfl) q758 rfl dX3_setOrder_96 ?_
                refine lv_iconst (v := 2) hC.1 hC.2.1 dX3_setOrder_99 (by decide) ?_
                refine lv_iload_n hC.1 hC.2.1 dX3_setOrder_100 rfl (lv_at hl 4 rfl) ?_
                refine m_ist hC hE hG 2 (by decide) rfl (N := 3) rfl (by decide) (j := 2) (by omega) dX3_setOrder_101 (fun H locs hG => ?_)
                exact g_vret hC hG hr (sU (sU (sU (sS (σ) 24 ((0))) 2 (0) (a)) 2 (1) (b)) 2 (2) (d)) rfl (by simp only [mSetOrder, if_pos (show okO a b d from ⟨c_6, c_15, c_24, c_29, c_34, c_39⟩), if_pos c_63]) hlocks dX3_setOrder_102
              · skip
                refine lv_iconst (v := 2) hC.1 hC.2.1 dX3_setOrder_66 (by decide) ?_
                refine lv_goto (tgt := 71) hC.1 hC.2.1 dX3_setOrder_67 (by decide) ?_
                refine m_puts hC hE hG 24 (by decide) q780 dX3_setOrder_71 (fun H locs hG => ?_)
                refine lv_aload_n hC.1 hC.2.1 dX3_setOrder_74 rfl (lv_at hl 1 rfl) ?_
                refine m_gets hC hE hG 24 (by decide) (fun _ => rfl) (v := (2)) (rfl) q780 rfl dX3_setOrder_75 ?_
                refine lv_if_ne (tgt := 102) hC.1 hC.2.1 dX3_setOrder_78 (by decide) (fun c_78 => ?_) (fun c_78 => absurd c_78 (by decide))
                exact g_vret hC hG hr (sS (σ) 24 ((2))) rfl (by simp only [mSetOrder, if_pos (show okO a b d from ⟨c_6, c_15, c_24, c_29, c_34, c_39⟩), if_neg c_63]) hlocks dX3_setOrder_102
set_option maxHeartbeats 4000000 in
theorem mt_beginBatch (l : Launch) (K : GK) (A : Nat → Prop) (G0 : GM) (h : Nat → Nat) (σ : MS) (b : Nat) (hb : σ.1 5 = nI b) (hb2 : b ≤ 10) : Met l yX3_beginBatch (ws_ yX3_beginBatch cX3_beginBatch 1 (some .int)) ({ frames := 0, cells := 0, slots := 0, locals := 0 }) (va_Pc ([.ref (h 25)]) (gW K A (mput K.2.1 h (σ) G0))) (va_Qi (fun (r9 : Int32) (u9 : MS) => (r9, u9) = mBegin σ b) (fun u t => gB K A (mput K.2.1 h u G0) t) A) 0 0 (A) := by
  refine g_ofW (cc := cX3_beginBatch) (by decide) (own := RX3) rfl (Nat.le_of_ble_eq_true rfl) ?_
  intro p e s m below meth c hC hr hlocks hnm hE hG ls hl
  have hl : lv_has ls 1 [(0, .ref (h 25))] := hl
  refine lv_aload_n hC.1 hC.2.1 dX3_beginBatch_0 rfl (lv_at hl 0 rfl) ?_
  refine lv_aload_n hC.1 hC.2.1 dX3_beginBatch_1 rfl (lv_at hl 0 rfl) ?_
  refine m_gets hC hE hG 5 (by decide) (fun _ => rfl) (v := σ.1 5) (rfl) q761 rfl dX3_beginBatch_2 ?_
  refine lv_bipush (v := 10) hC.1 hC.2.1 dX3_beginBatch_5 (by decide) ?_
  refine lv_icmp_ne (tgt := 14) hC.1 hC.2.1 dX3_beginBatch_7 (by decide) (fun c_7 => ?_) (fun c_7 => ?_)
  · skip
    refine lv_iconst (v := 0) hC.1 hC.2.1 dX3_beginBatch_14 (by decide) ?_
    refine m_puts hC hE hG 24 (by decide) q780 dX3_beginBatch_15 (fun H locs hG => ?_)
    refine lv_aload_n hC.1 hC.2.1 dX3_beginBatch_18 rfl (lv_at hl 0 rfl) ?_
    refine m_gets hC hE hG 24 (by decide) (fun _ => rfl) (v := (0)) (rfl) q780 rfl dX3_beginBatch_19 ?_
    refine lv_if_le (tgt := 27) hC.1 hC.2.1 dX3_beginBatch_22 (by decide) (fun c_22 => ?_) (fun c_22 => absurd c_22 (by decide))
    have hb3 : b < 10 := by
      rcases Nat.lt_or_ge b 10 with q | q
      · exact q
      · exact absurd (by rw [hb, show b = 10 by omega]; rfl) c_7
    refine lv_aload_n hC.1 hC.2.1 dX3_beginBatch_27 rfl (lv_at hl 0 rfl) ?_
    refine m_geta hC hE hG 6 (by decide) (fun _ => rfl) q762 rfl dX3_beginBatch_28 ?_
    refine lv_aload_n hC.1 hC.2.1 dX3_beginBatch_31 rfl (lv_at hl 0 rfl) ?_
    refine m_gets hC hE hG 5 (by decide) (fun _ => rfl) (v := nI (b)) (hb) q761 rfl dX3_beginBatch_32 ?_
    refine lv_iconst (v := 0) hC.1 hC.2.1 dX3_beginBatch_35 (by decide) ?_
    refine m_zst hC hE hG 6 (by decide) rfl (N := 10) rfl (by decide) (j := b) (by omega) (rfl) dX3_beginBatch_36 (fun H locs hG => ?_)
    refine lv_aload_n hC.1 hC.2.1 dX3_beginBatch_37 rfl (lv_at hl 0 rfl) ?_
    refine lv_dup hC.1 hC.2.1 dX3_beginBatch_38 rfl ?_
    refine m_gets hC hE hG 5 (by decide) (fun _ => rfl) (v := nI (b)) (hb) q761 rfl dX3_beginBatch_39 ?_
    refine lv_iconst (v := 1) hC.1 hC.2.1 dX3_beginBatch_42 (by decide) ?_
    refine n_add (a := b) (b := 1) (d := b + 1) hC (by first | rfl | omega) dX3_beginBatch_43 ?_
    refine m_puts hC hE hG 5 (by decide) q761 dX3_beginBatch_44 (fun H locs hG => ?_)
    refine lv_aload_n hC.1 hC.2.1 dX3_beginBatch_47 rfl (lv_at hl 0 rfl) ?_
    refine m_gets hC hE hG 5 (by decide) (fun _ => rfl) (v := nI (b + 1)) (rfl) q761 rfl dX3_beginBatch_48 ?_
    refine lv_iconst (v := 1) hC.1 hC.2.1 dX3_beginBatch_51 (by decide) ?_
    refine n_sub (a := b + 1) (b := 1) (d := b) hC (by omega) (by omega) dX3_beginBatch_52 ?_
    exact g_iret hC hG hr (rfl) (sS (sU (sS (σ) 24 ((0))) 6 (b) ((0))) 5 (nI (b + 1))) rfl (by simp only [mBegin, if_neg c_7, if_true, if_false]) hlocks dX3_beginBatch_53
  · skip
    refine lv_iconst (v := 1) hC.1 hC.2.1 dX3_beginBatch_10 (by decide) ?_
    refine lv_goto (tgt := 15) hC.1 hC.2.1 dX3_beginBatch_11 (by decide) ?_
    refine m_puts hC hE hG 24 (by decide) q780 dX3_beginBatch_15 (fun H locs hG => ?_)
    refine lv_aload_n hC.1 hC.2.1 dX3_beginBatch_18 rfl (lv_at hl 0 rfl) ?_
    refine m_gets hC hE hG 24 (by decide) (fun _ => rfl) (v := (1)) (rfl) q780 rfl dX3_beginBatch_19 ?_
    refine lv_if_le (tgt := 27) hC.1 hC.2.1 dX3_beginBatch_22 (by decide) (fun c_22 => absurd c_22 (by decide)) (fun c_22 => ?_)
    refine lv_iconst (v := 0) hC.1 hC.2.1 dX3_beginBatch_25 (by decide) ?_
    exact g_iret hC hG hr (rfl) (sS (σ) 24 ((1))) rfl (by simp only [mBegin, if_pos c_7, if_true, if_false]) hlocks dX3_beginBatch_26
set_option maxHeartbeats 4000000 in
theorem mt_isRecord (l : Launch) (K : GK) (A : Nat → Prop) (G0 : GM) (h : Nat → Nat) (σ : MS) (x : Int32) : Met l yX3_isRecord (ws_ yX3_isRecord cX3_isRecord 2 (some .boolean)) ({ frames := 1, cells := 0, slots := 0, locals := 22 }) (va_Pc ([.ref (h 25), .int (x)]) (gW K A (mput K.2.1 h (σ) G0))) (vp_Si (fun r9 => r9 = bI (mRec σ x))) 0 0 (fun _ => False) := by
  refine g_ofW (cc := cX3_isRecord) (by decide) (own := RX3) rfl (Nat.le_of_ble_eq_true rfl) ?_
  intro p e s m below meth c hC hr hlocks hnm hE hG ls hl
  have hl : lv_has ls 2 [(0, .ref (h 25)), (1, .int (x))] := hl
  refine lv_iload_n hC.1 hC.2.1 dX3_isRecord_0 rfl (lv_at hl 1 rfl) ?_
  refine lv_iconst (v := 0) hC.1 hC.2.1 dX3_isRecord_1 (by decide) ?_
  refine lv_bipush (v := 79) hC.1 hC.2.1 dX3_isRecord_2 (by decide) ?_
  refine g_sP (As := [.int (x), .int ((0)), .int ((79))]) (rest := []) hC (mt_in l (x) ((0)) ((79))) (va_cwS 3 hC.2.2.2.2 (lw_S q840 q841 q26 q842) rfl rfl rfl (by decide +kernel) ⟨Nat.le_of_ble_eq_true rfl, Nat.le_of_ble_eq_true rfl⟩) rfl hl.1 rfl (Nat.le_of_ble_eq_true rfl) dX3_isRecord_4 ⟨Nat.le_of_ble_eq_true rfl, Nat.le_of_ble_eq_true rfl⟩ (fun r hr9 => ?_)
  subst hr9
  refine b_eq (tgt := 23) hC dX3_isRecord_7 (by decide) (fun c_7 => ?_) (fun c_7 => ?_)
  · skip
    refine lv_iconst (v := 0) hC.1 hC.2.1 dX3_isRecord_23 (by decide) ?_
    exact g_roret hC hr (rfl) (by exact (bI_f (fun q => c_7 q.1)).symm) hlocks dX3_isRecord_24
  · skip
    refine lv_aload_n hC.1 hC.2.1 dX3_isRecord_10 rfl (lv_at hl 0 rfl) ?_
    refine m_geta hC hE hG 18 (by decide) (fun _ => rfl) q774 rfl dX3_isRecord_11 ?_
    refine lv_iload_n hC.1 hC.2.1 dX3_isRecord_14 rfl (lv_at hl 1 rfl) ?_
    refine m_zald hC hE hG 18 (by decide) rfl (N := 80) rfl (i := x) (v := σ.2 18 (tN (x))) (inR_in c_7 (by decide) rfl) (rfl) dX3_isRecord_15 ?_
    refine lv_if_eq (tgt := 23) hC.1 hC.2.1 dX3_isRecord_16 (by decide) (fun c_16 => ?_) (fun c_16 => ?_)
    · skip
      refine lv_iconst (v := 0) hC.1 hC.2.1 dX3_isRecord_23 (by decide) ?_
      exact g_roret hC hr (rfl) (by exact (bI_f (fun q => q.2 c_16)).symm) hlocks dX3_isRecord_24
    · skip
      refine lv_iconst (v := 1) hC.1 hC.2.1 dX3_isRecord_19 (by decide) ?_
      refine lv_goto (tgt := 24) hC.1 hC.2.1 dX3_isRecord_20 (by decide) ?_
      exact g_roret hC hr (rfl) (by exact (bI_t ⟨c_7, c_16⟩).symm) hlocks dX3_isRecord_24
set_option maxHeartbeats 4000000 in
theorem mt_recordMany (l : Launch) (K : GK) (A : Nat → Prop) (G0 : GM) (h : Nat → Nat) (σ : MS)  : Met l yX3_recordMany (ws_ yX3_recordMany cX3_recordMany 3 (some .int)) ({ frames := 0, cells := 0, slots := 0, locals := 0 }) (va_Pc ([.ref (h 25)]) (gW K A (mput K.2.1 h (σ) G0))) (vp_Si (fun r9 => r9 = mMany σ 80)) 0 0 (fun _ => False) := by
  refine g_ofW (cc := cX3_recordMany) (by decide) (own := RX3) rfl (Nat.le_of_ble_eq_true rfl) ?_
  intro p e s m below meth c hC hr hlocks hnm hE hG ls hl
  have hl : lv_has ls 3 [(0, .ref (h 25))] := hl
  refine lv_iconst (v := 0) hC.1 hC.2.1 dX3_recordMany_0 (by decide) ?_
  refine lv_istore_n (lv' := [(1, .int ((0))), (0, .ref (h 25))]) hC.1 hC.2.1 dX3_recordMany_1 rfl hl (by decide) rfl (fun ls hl => ?_)
  refine lv_iconst (v := 0) hC.1 hC.2.1 dX3_recordMany_2 (by decide) ?_
  refine lv_istore_n (lv' := [(2, .int ((0))), (1, .int ((0))), (0, .ref (h 25))]) hC.1 hC.2.1 dX3_recordMany_3 rfl hl (by decide) rfl (fun ls hl => ?_)
  have lp4 : ∀ (nn i4 : Nat), i4 + nn = 80 → ∀ ls : Array Slot, lv_has ls 3 [(2, .int (nI (i4))), (1, .int (mMany σ (i4))), (0, .ref (h 25))] → W p l e ({ frames := 0, cells := 0, slots := 0, locals := 0 }) s m ([.ref (h 25)] : List Value).toArray below meth c s.heap [] 0 0 (MQ below (vp_Si (fun r9 => r9 = mMany σ 80)) ([.ref (h 25)] : List Value).toArray s 0 0 (fun _ => False)) (F0 m 4 ls []) := by
    intro nn
    induction nn with
    | zero =>
      intro i4 hi4 ls hl
      obtain rfl : 80 = i4 := by omega
      refine lv_iload_n hC.1 hC.2.1 dX3_recordMany_4 rfl (lv_at hl 0 rfl) ?_
      refine lv_bipush (v := 80) hC.1 hC.2.1 dX3_recordMany_5 (by decide) ?_
      refine n_ge (a := 80) (b := 80) hC (by omega) (by omega) (tgt := 33) dX3_recordMany_7 (by decide) (fun c_7 => ?_) (fun c_7 => absurd c_7 (by omega))
      refine lv_iload_n hC.1 hC.2.1 dX3_recordMany_33 rfl (lv_at hl 1 rfl) ?_
      exact g_roret hC hr (rfl) (by rfl) hlocks dX3_recordMany_34
    | succ nn ih4 =>
      intro i4 hi4 ls hl
      have hlt4 : i4 < 80 := by omega
      refine lv_iload_n hC.1 hC.2.1 dX3_recordMany_4 rfl (lv_at hl 0 rfl) ?_
      refine lv_bipush (v := 80) hC.1 hC.2.1 dX3_recordMany_5 (by decide) ?_
      refine n_ge (a := i4) (b := 80) hC (by omega) (by omega) (tgt := 33) dX3_recordMany_7 (by decide) (fun c_7 => absurd c_7 (by omega)) (fun c_7 => ?_)
      refine lv_iload_n hC.1 hC.2.1 dX3_recordMany_10 rfl (lv_at hl 1 rfl) ?_
      refine lv_aload_n hC.1 hC.2.1 dX3_recordMany_11 rfl (lv_at hl 2 rfl) ?_
      refine m_geta hC hE hG 18 (by decide) (fun _ => rfl) q774 rfl dX3_recordMany_12 ?_
      refine lv_iload_n hC.1 hC.2.1 dX3_recordMany_15 rfl (lv_at hl 0 rfl) ?_
      refine m_zld hC hE hG 18 (by decide) rfl (N := 80) rfl (by decide) (j := i4) (v := σ.2 18 i4) (by omega) (rfl) dX3_recordMany_16 ?_
      refine lv_if_eq (tgt := 24) hC.1 hC.2.1 dX3_recordMany_17 (by decide) (fun c_17 => ?_) (fun c_17 => ?_)
      · skip
        refine lv_iconst (v := 0) hC.1 hC.2.1 dX3_recordMany_24 (by decide) ?_
        refine lv_iadd hC.1 hC.2.1 dX3_recordMany_25 ?_
        refine lv_istore_n (lv' := [(1, .int ((mMany σ (i4)) + (0))), (2, .int (nI (i4))), (0, .ref (h 25))]) hC.1 hC.2.1 dX3_recordMany_26 rfl hl (by decide) rfl (fun ls hl => ?_)
        refine lv_iinc (v := nI (i4 + 1)) (lv' := [(2, .int (nI (i4 + 1))), (1, .int ((mMany σ (i4)) + (0))), (0, .ref (h 25))]) hC.1 hC.2.1 dX3_recordMany_27 hl (k := 1) rfl (n_inc _) (by decide) rfl (fun ls hl => ?_)
        refine lv_goto (tgt := 4) hC.1 hC.2.1 dX3_recordMany_30 (by decide) ?_
        have hl : lv_has ls 3 [(2, .int (nI (i4 + 1))), (1, .int (mMany σ (i4 + 1))), (0, .ref (h 25))] := by
          have e1 : mMany σ (i4 + 1) = (mMany σ (i4)) + (0) := by
            simp only [mMany, if_pos c_17, if_true, if_false]
          rw [e1]
          exact lv_sub hl [0, 1, 2] rfl
        exact ih4 (i4 + 1) (by omega) ls (lv_sub hl [0, 1, 2] rfl)
      · skip
        refine lv_iconst (v := 1) hC.1 hC.2.1 dX3_recordMany_20 (by decide) ?_
        refine lv_goto (tgt := 25) hC.1 hC.2.1 dX3_recordMany_21 (by decide) ?_
        refine lv_iadd hC.1 hC.2.1 dX3_recordMany_25 ?_
        refine lv_istore_n (lv' := [(1, .int ((mMany σ (i4)) + (1))), (2, .int (nI (i4))), (0, .ref (h 25))]) hC.1 hC.2.1 dX3_recordMany_26 rfl hl (by decide) rfl (fun ls hl => ?_)
        refine lv_iinc (v := nI (i4 + 1)) (lv' := [(2, .int (nI (i4 + 1))), (1, .int ((mMany σ (i4)) + (1))), (0, .ref (h 25))]) hC.1 hC.2.1 dX3_recordMany_27 hl (k := 1) rfl (n_inc _) (by decide) rfl (fun ls hl => ?_)
        refine lv_goto (tgt := 4) hC.1 hC.2.1 dX3_recordMany_30 (by decide) ?_
        have hl : lv_has ls 3 [(2, .int (nI (i4 + 1))), (1, .int (mMany σ (i4 + 1))), (0, .ref (h 25))] := by
          have e1 : mMany σ (i4 + 1) = (mMany σ (i4)) + (1) := by
            simp only [mMany, if_neg c_17, if_true, if_false]
          rw [e1]
          exact lv_sub hl [0, 1, 2] rfl
        exact ih4 (i4 + 1) (by omega) ls (lv_sub hl [0, 1, 2] rfl)
  exact lp4 80 0 (by omega) ls (lv_sub hl [0, 1, 2] rfl)
set_option maxHeartbeats 4000000 in
theorem mt_batches (l : Launch) (K : GK) (A : Nat → Prop) (G0 : GM) (h : Nat → Nat) (σ : MS)  : Met l yX3_batches (ws_ yX3_batches cX3_batches 1 (some .int)) ({ frames := 0, cells := 0, slots := 0, locals := 0 }) (va_Pc ([.ref (h 25)]) (gW K A (mput K.2.1 h (σ) G0))) (va_Qi (fun (r9 : Int32) (u9 : MS) => (r9, u9) = (σ.1 5, sS σ 24 0)) (fun u t => gB K A (mput K.2.1 h u G0) t) A) 0 0 (A) := by
  refine g_ofW (cc := cX3_batches) (by decide) (own := RX3) rfl (Nat.le_of_ble_eq_true rfl) ?_
  intro p e s m below meth c hC hr hlocks hnm hE hG ls hl
  have hl : lv_has ls 1 [(0, .ref (h 25))] := hl
  refine lv_aload_n hC.1 hC.2.1 dX3_batches_0 rfl (lv_at hl 0 rfl) ?_
  refine lv_iconst (v := 0) hC.1 hC.2.1 dX3_batches_1 (by decide) ?_
  refine m_puts hC hE hG 24 (by decide) q780 dX3_batches_2 (fun H locs hG => ?_)
  refine lv_aload_n hC.1 hC.2.1 dX3_batches_5 rfl (lv_at hl 0 rfl) ?_
  refine m_gets hC hE hG 5 (by decide) (fun _ => rfl) (v := σ.1 5) (rfl) q761 rfl dX3_batches_6 ?_
  exact g_iret hC hG hr (rfl) (sS (σ) 24 ((0))) rfl (by rfl) hlocks dX3_batches_9
set_option maxHeartbeats 4000000 in
theorem mt_loads (l : Launch) (K : GK) (A : Nat → Prop) (G0 : GM) (h : Nat → Nat) (σ : MS)  : Met l yX3_loads (ws_ yX3_loads cX3_loads 1 (some .int)) ({ frames := 0, cells := 0, slots := 0, locals := 0 }) (va_Pc ([.ref (h 25)]) (gW K A (mput K.2.1 h (σ) G0))) (va_Qi (fun (r9 : Int32) (u9 : MS) => (r9, u9) = (σ.1 7, sS σ 24 0)) (fun u t => gB K A (mput K.2.1 h u G0) t) A) 0 0 (A) := by
  refine g_ofW (cc := cX3_loads) (by decide) (own := RX3) rfl (Nat.le_of_ble_eq_true rfl) ?_
  intro p e s m below meth c hC hr hlocks hnm hE hG ls hl
  have hl : lv_has ls 1 [(0, .ref (h 25))] := hl
  refine lv_aload_n hC.1 hC.2.1 dX3_loads_0 rfl (lv_at hl 0 rfl) ?_
  refine lv_iconst (v := 0) hC.1 hC.2.1 dX3_loads_1 (by decide) ?_
  refine m_puts hC hE hG 24 (by decide) q780 dX3_loads_2 (fun H locs hG => ?_)
  refine lv_aload_n hC.1 hC.2.1 dX3_loads_5 rfl (lv_at hl 0 rfl) ?_
  refine m_gets hC hE hG 7 (by decide) (fun _ => rfl) (v := σ.1 7) (rfl) q763 rfl dX3_loads_6 ?_
  exact g_iret hC hG hr (rfl) (sS (σ) 24 ((0))) rfl (by rfl) hlocks dX3_loads_9
set_option maxHeartbeats 4000000 in
theorem mt_records (l : Launch) (K : GK) (A : Nat → Prop) (G0 : GM) (h : Nat → Nat) (σ : MS)  : Met l yX3_records (ws_ yX3_records cX3_records 1 (some .int)) ({ frames := 1, cells := 0, slots := 0, locals := 22 }) (va_Pc ([.ref (h 25)]) (gW K A (mput K.2.1 h (σ) G0))) (va_Qi (fun (r9 : Int32) (u9 : MS) => (r9, u9) = (mMany (sS σ 24 0) 80, sS σ 24 0)) (fun u t => gB K A (mput K.2.1 h u G0) t) A) 0 0 (A) := by
  refine g_ofW (cc := cX3_records) (by decide) (own := RX3) rfl (Nat.le_of_ble_eq_true rfl) ?_
  intro p e s m below meth c hC hr hlocks hnm hE hG ls hl
  have hl : lv_has ls 1 [(0, .ref (h 25))] := hl
  refine lv_aload_n hC.1 hC.2.1 dX3_records_0 rfl (lv_at hl 0 rfl) ?_
  refine lv_iconst (v := 0) hC.1 hC.2.1 dX3_records_1 (by decide) ?_
  refine m_puts hC hE hG 24 (by decide) q780 dX3_records_2 (fun H locs hG => ?_)
  refine lv_aload_n hC.1 hC.2.1 dX3_records_5 rfl (lv_at hl 0 rfl) ?_
  refine g_roV (As := []) (rest := []) hC hE hG (mt_recordMany l K A G0 h (sS (σ) 24 ((0))) ) (cwV 0 hC.2.2.2.2 (lw_V q919 q921 qs18 q26 q922) rfl rfl rfl (by decide +kernel) ⟨Nat.le_of_ble_eq_true rfl, Nat.le_of_ble_eq_true rfl⟩) (mput_o _ _ _ _) rfl rfl hl.1 rfl (Nat.le_of_ble_eq_true rfl) dX3_records_6 ⟨Nat.le_of_ble_eq_true rfl, Nat.le_of_ble_eq_true rfl⟩ (fun r hr9 => ?_)
  subst hr9
  exact g_iret hC hG hr (rfl) (sS (σ) 24 ((0))) rfl (by rfl) hlocks dX3_records_9
set_option maxHeartbeats 4000000 in
theorem mt_isUndone (l : Launch) (K : GK) (A : Nat → Prop) (G0 : GM) (h : Nat → Nat) (σ : MS) (b : Int32) (nb : Nat) (hb5 : σ.1 5 = nI nb) (hb2 : nb ≤ 10) : Met l yX3_isUndone (ws_ yX3_isUndone cX3_isUndone 2 (some .boolean)) ({ frames := 1, cells := 0, slots := 0, locals := 22 }) (va_Pc ([.ref (h 25), .int (b)]) (gW K A (mput K.2.1 h (σ) G0))) (va_Qi (fun (r9 : Int32) (u9 : MS) => (r9, u9) = mIsUndone σ b) (fun u t => gB K A (mput K.2.1 h u G0) t) A) 0 0 (A) := by
  refine g_ofW (cc := cX3_isUndone) (by decide) (own := RX3) rfl (Nat.le_of_ble_eq_true rfl) ?_
  intro p e s m below meth c hC hr hlocks hnm hE hG ls hl
  have hl : lv_has ls 2 [(0, .ref (h 25)), (1, .int (b))] := hl
  refine lv_aload_n hC.1 hC.2.1 dX3_isUndone_0 rfl (lv_at hl 0 rfl) ?_
  refine lv_iload_n hC.1 hC.2.1 dX3_isUndone_1 rfl (lv_at hl 1 rfl) ?_
  refine lv_iconst (v := 0) hC.1 hC.2.1 dX3_isUndone_2 (by decide) ?_
  refine lv_aload_n hC.1 hC.2.1 dX3_isUndone_3 rfl (lv_at hl 0 rfl) ?_
  refine m_gets hC hE hG 5 (by decide) (fun _ => rfl) (v := σ.1 5) (rfl) q761 rfl dX3_isUndone_4 ?_
  refine lv_iconst (v := 1) hC.1 hC.2.1 dX3_isUndone_7 (by decide) ?_
  refine lv_isub hC.1 hC.2.1 dX3_isUndone_8 ?_
  refine g_sP (As := [.int (b), .int ((0)), .int (σ.1 5 - (1))]) (rest := [.ref (h 25)]) hC (mt_in l (b) ((0)) (σ.1 5 - (1))) (va_cwS 3 hC.2.2.2.2 (lw_S q840 q841 q26 q842) rfl rfl rfl (by decide +kernel) ⟨Nat.le_of_ble_eq_true rfl, Nat.le_of_ble_eq_true rfl⟩) rfl hl.1 rfl (Nat.le_of_ble_eq_true rfl) dX3_isUndone_9 ⟨Nat.le_of_ble_eq_true rfl, Nat.le_of_ble_eq_true rfl⟩ (fun r hr9 => ?_)
  subst hr9
  refine b_eq (tgt := 19) hC dX3_isUndone_12 (by decide) (fun c_12 => ?_) (fun c_12 => ?_)
  · skip
    refine lv_iconst (v := 1) hC.1 hC.2.1 dX3_isUndone_19 (by decide) ?_
    refine m_puts hC hE hG 24 (by decide) q780 dX3_isUndone_20 (fun H locs hG => ?_)
    refine lv_aload_n hC.1 hC.2.1 dX3_isUndone_23 rfl (lv_at hl 0 rfl) ?_
    refine m_gets hC hE hG 24 (by decide) (fun _ => rfl) (v := (1)) (rfl) q780 rfl dX3_isUndone_24 ?_
    refine lv_if_ne (tgt := 43) hC.1 hC.2.1 dX3_isUndone_27 (by decide) (fun c_27 => ?_) (fun c_27 => absurd c_27 (by decide))
    refine lv_iconst (v := 0) hC.1 hC.2.1 dX3_isUndone_43 (by decide) ?_
    exact g_iret hC hG hr (rfl) (sS (σ) 24 ((1))) rfl (by simp only [mIsUndone, if_neg c_12, if_true, if_false]) hlocks dX3_isUndone_44
  · skip
    refine lv_iconst (v := 0) hC.1 hC.2.1 dX3_isUndone_15 (by decide) ?_
    refine lv_goto (tgt := 20) hC.1 hC.2.1 dX3_isUndone_16 (by decide) ?_
    refine m_puts hC hE hG 24 (by decide) q780 dX3_isUndone_20 (fun H locs hG => ?_)
    refine lv_aload_n hC.1 hC.2.1 dX3_isUndone_23 rfl (lv_at hl 0 rfl) ?_
    refine m_gets hC hE hG 24 (by decide) (fun _ => rfl) (v := (0)) (rfl) q780 rfl dX3_isUndone_24 ?_
    refine lv_if_ne (tgt := 43) hC.1 hC.2.1 dX3_isUndone_27 (by decide) (fun c_27 => absurd c_27 (by decide)) (fun c_27 => ?_)
    refine lv_aload_n hC.1 hC.2.1 dX3_isUndone_30 rfl (lv_at hl 0 rfl) ?_
    refine m_geta hC hE hG 6 (by decide) (fun _ => rfl) q762 rfl dX3_isUndone_31 ?_
    refine lv_iload_n hC.1 hC.2.1 dX3_isUndone_34 rfl (lv_at hl 1 rfl) ?_
    refine m_zald hC hE hG 6 (by decide) rfl (N := 10) rfl (i := b) (v := σ.2 6 (tN (b))) ((inR_b (n := 10) (hb5 ▸ c_12) hb2 (by decide)).1) (rfl) dX3_isUndone_35 ?_
    refine lv_if_eq (tgt := 43) hC.1 hC.2.1 dX3_isUndone_36 (by decide) (fun c_36 => ?_) (fun c_36 => ?_)
    · skip
      refine lv_iconst (v := 0) hC.1 hC.2.1 dX3_isUndone_43 (by decide) ?_
      exact g_iret hC hG hr (rfl) (sS (σ) 24 ((0))) rfl (by simp only [mIsUndone, if_pos c_12, if_pos c_36, if_true, if_false]) hlocks dX3_isUndone_44
    · skip
      refine lv_iconst (v := 1) hC.1 hC.2.1 dX3_isUndone_39 (by decide) ?_
      refine lv_goto (tgt := 44) hC.1 hC.2.1 dX3_isUndone_40 (by decide) ?_
      exact g_iret hC hG hr (rfl) (sS (σ) 24 ((0))) rfl (by simp only [mIsUndone, if_pos c_12, if_neg c_36, if_true, if_false]) hlocks dX3_isUndone_44
set_option maxHeartbeats 4000000 in
theorem mt_isThere (l : Launch) (K : GK) (A : Nat → Prop) (G0 : GM) (h : Nat → Nat) (σ : MS) (x : Int32) : Met l yX3_isThere (ws_ yX3_isThere cX3_isThere 2 (some .boolean)) ({ frames := 2, cells := 0, slots := 0, locals := 43 }) (va_Pc ([.ref (h 25), .int (x)]) (gW K A (mput K.2.1 h (σ) G0))) (va_Qi (fun (r9 : Int32) (u9 : MS) => (r9, u9) = (bI (mRec (sS σ 24 0) x), sS σ 24 0)) (fun u t => gB K A (mput K.2.1 h u G0) t) A) 0 0 (A) := by
  refine g_ofW (cc := cX3_isThere) (by decide) (own := RX3) rfl (Nat.le_of_ble_eq_true rfl) ?_
  intro p e s m below meth c hC hr hlocks hnm hE hG ls hl
  have hl : lv_has ls 2 [(0, .ref (h 25)), (1, .int (x))] := hl
  refine lv_aload_n hC.1 hC.2.1 dX3_isThere_0 rfl (lv_at hl 0 rfl) ?_
  refine lv_iconst (v := 0) hC.1 hC.2.1 dX3_isThere_1 (by decide) ?_
  refine m_puts hC hE hG 24 (by decide) q780 dX3_isThere_2 (fun H locs hG => ?_)
  refine lv_aload_n hC.1 hC.2.1 dX3_isThere_5 rfl (lv_at hl 0 rfl) ?_
  refine lv_iload_n hC.1 hC.2.1 dX3_isThere_6 rfl (lv_at hl 1 rfl) ?_
  refine g_roV (As := [.int (x)]) (rest := []) hC hE hG (mt_isRecord l K A G0 h (sS (σ) 24 ((0))) (x)) (cwV 1 hC.2.2.2.2 (lw_V q899 q901 qs16 q26 q902) rfl rfl rfl (by decide +kernel) ⟨Nat.le_of_ble_eq_true rfl, Nat.le_of_ble_eq_true rfl⟩) (mput_o _ _ _ _) rfl rfl hl.1 rfl (Nat.le_of_ble_eq_true rfl) dX3_isThere_7 ⟨Nat.le_of_ble_eq_true rfl, Nat.le_of_ble_eq_true rfl⟩ (fun r hr9 => ?_)
  subst hr9
  exact g_iret hC hG hr (nb01 (bI_01 _)) (sS (σ) 24 ((0))) rfl (by rfl) hlocks dX3_isThere_10
set_option maxHeartbeats 4000000 in
theorem mt_hit (l : Launch) (K : GK) (A : Nat → Prop) (G0 : GM) (h : Nat → Nat) (σ : MS) (n : Int32) (nl : Nat) (hn7 : σ.1 7 = nI nl) (hn2 : nl ≤ 80) : Met l yX3_hit (ws_ yX3_hit cX3_hit 2 (some .int)) ({ frames := 1, cells := 0, slots := 0, locals := 22 }) (va_Pc ([.ref (h 25), .int (n)]) (gW K A (mput K.2.1 h (σ) G0))) (va_Qi (fun (r9 : Int32) (u9 : MS) => (r9, u9) = mHit σ n) (fun u t => gB K A (mput K.2.1 h u G0) t) A) 0 0 (A) := by
  refine g_ofW (cc := cX3_hit) (by decide) (own := RX3) rfl (Nat.le_of_ble_eq_true rfl) ?_
  intro p e s m below meth c hC hr hlocks hnm hE hG ls hl
  have hl : lv_has ls 2 [(0, .ref (h 25)), (1, .int (n))] := hl
  refine lv_aload_n hC.1 hC.2.1 dX3_hit_0 rfl (lv_at hl 0 rfl) ?_
  refine lv_iload_n hC.1 hC.2.1 dX3_hit_1 rfl (lv_at hl 1 rfl) ?_
  refine lv_iconst (v := 0) hC.1 hC.2.1 dX3_hit_2 (by decide) ?_
  refine lv_aload_n hC.1 hC.2.1 dX3_hit_3 rfl (lv_at hl 0 rfl) ?_
  refine m_gets hC hE hG 7 (by decide) (fun _ => rfl) (v := σ.1 7) (rfl) q763 rfl dX3_hit_4 ?_
  refine lv_iconst (v := 1) hC.1 hC.2.1 dX3_hit_7 (by decide) ?_
  refine lv_isub hC.1 hC.2.1 dX3_hit_8 ?_
  refine g_sP (As := [.int (n), .int ((0)), .int (σ.1 7 - (1))]) (rest := [.ref (h 25)]) hC (mt_in l (n) ((0)) (σ.1 7 - (1))) (va_cwS 3 hC.2.2.2.2 (lw_S q840 q841 q26 q842) rfl rfl rfl (by decide +kernel) ⟨Nat.le_of_ble_eq_true rfl, Nat.le_of_ble_eq_true rfl⟩) rfl hl.1 rfl (Nat.le_of_ble_eq_true rfl) dX3_hit_9 ⟨Nat.le_of_ble_eq_true rfl, Nat.le_of_ble_eq_true rfl⟩ (fun r hr9 => ?_)
  subst hr9
  refine b_eq (tgt := 19) hC dX3_hit_12 (by decide) (fun c_12 => ?_) (fun c_12 => ?_)
  · skip
    refine lv_iconst (v := 1) hC.1 hC.2.1 dX3_hit_19 (by decide) ?_
    refine m_puts hC hE hG 24 (by decide) q780 dX3_hit_20 (fun H locs hG => ?_)
    refine lv_aload_n hC.1 hC.2.1 dX3_hit_23 rfl (lv_at hl 0 rfl) ?_
    refine m_gets hC hE hG 24 (by decide) (fun _ => rfl) (v := (1)) (rfl) q780 rfl dX3_hit_24 ?_
    refine lv_if_ne (tgt := 39) hC.1 hC.2.1 dX3_hit_27 (by decide) (fun c_27 => ?_) (fun c_27 => absurd c_27 (by decide))
    refine lv_iconst (v := 0) hC.1 hC.2.1 dX3_hit_39 (by decide) ?_
    exact g_iret hC hG hr (rfl) (sS (σ) 24 ((1))) rfl (by simp only [mHit, if_neg c_12, if_true, if_false]) hlocks dX3_hit_40
  · skip
    refine lv_iconst (v := 0) hC.1 hC.2.1 dX3_hit_15 (by decide) ?_
    refine lv_goto (tgt := 20) hC.1 hC.2.1 dX3_hit_16 (by decide) ?_
    refine m_puts hC hE hG 24 (by decide) q780 dX3_hit_20 (fun H locs hG => ?_)
    refine lv_aload_n hC.1 hC.2.1 dX3_hit_23 rfl (lv_at hl 0 rfl) ?_
    refine m_gets hC hE hG 24 (by decide) (fun _ => rfl) (v := (0)) (rfl) q780 rfl dX3_hit_24 ?_
    refine lv_if_ne (tgt := 39) hC.1 hC.2.1 dX3_hit_27 (by decide) (fun c_27 => absurd c_27 (by decide)) (fun c_27 => ?_)
    refine lv_aload_n hC.1 hC.2.1 dX3_hit_30 rfl (lv_at hl 0 rfl) ?_
    refine m_geta hC hE hG 12 (by decide) (fun _ => rfl) q768 rfl dX3_hit_31 ?_
    refine lv_iload_n hC.1 hC.2.1 dX3_hit_34 rfl (lv_at hl 1 rfl) ?_
    refine m_iald hC hE hG 12 (by decide) rfl (N := 80) rfl (i := n) (v := σ.2 12 (tN (n))) ((inR_b (n := 80) (hn7 ▸ c_12) hn2 (by decide)).1) (rfl) dX3_hit_35 ?_
    refine lv_goto (tgt := 40) hC.1 hC.2.1 dX3_hit_36 (by decide) ?_
    exact g_iret hC hG hr (rfl) (sS (σ) 24 ((0))) rfl (by simp only [mHit, if_pos c_12, if_true, if_false]) hlocks dX3_hit_40
set_option maxHeartbeats 4000000 in
theorem mt_keyOf (l : Launch) (K : GK) (A : Nat → Prop) (G0 : GM) (h : Nat → Nat) (σ : MS) (r k : Int32) : Met l yX3_keyOf (ws_ yX3_keyOf cX3_keyOf 3 (some .int)) ({ frames := 2, cells := 0, slots := 0, locals := 43 }) (va_Pc ([.ref (h 25), .int (r), .int (k)]) (gW K A (mput K.2.1 h (σ) G0))) (va_Qi (fun (r9 : Int32) (u9 : MS) => (r9, u9) = mKeyOf σ r k) (fun u t => gB K A (mput K.2.1 h u G0) t) A) 0 0 (A) := by
  refine g_ofW (cc := cX3_keyOf) (by decide) (own := RX3) rfl (Nat.le_of_ble_eq_true rfl) ?_
  intro p e s m below meth c hC hr hlocks hnm hE hG ls hl
  have hl : lv_has ls 3 [(0, .ref (h 25)), (1, .int (r)), (2, .int (k))] := hl
  refine lv_aload_n hC.1 hC.2.1 dX3_keyOf_0 rfl (lv_at hl 0 rfl) ?_
  refine lv_aload_n hC.1 hC.2.1 dX3_keyOf_1 rfl (lv_at hl 0 rfl) ?_
  refine lv_iload_n hC.1 hC.2.1 dX3_keyOf_2 rfl (lv_at hl 1 rfl) ?_
  refine g_roV (As := [.int (r)]) (rest := [.ref (h 25)]) hC hE hG (mt_isRecord l K A G0 h (σ) (r)) (cwV 1 hC.2.2.2.2 (lw_V q899 q901 qs16 q26 q902) rfl rfl rfl (by decide +kernel) ⟨Nat.le_of_ble_eq_true rfl, Nat.le_of_ble_eq_true rfl⟩) (mput_o _ _ _ _) rfl rfl hl.1 rfl (Nat.le_of_ble_eq_true rfl) dX3_keyOf_3 ⟨Nat.le_of_ble_eq_true rfl, Nat.le_of_ble_eq_true rfl⟩ (fun r hr9 => ?_)
  subst hr9
  refine b_eq (tgt := 22) hC dX3_keyOf_6 (by decide) (fun c_6 => ?_) (fun c_6 => ?_)
  · skip
    refine lv_iconst (v := 1) hC.1 hC.2.1 dX3_keyOf_22 (by decide) ?_
    refine m_puts hC hE hG 24 (by decide) q780 dX3_keyOf_23 (fun H locs hG => ?_)
    refine lv_aload_n hC.1 hC.2.1 dX3_keyOf_26 rfl (lv_at hl 0 rfl) ?_
    refine m_gets hC hE hG 24 (by decide) (fun _ => rfl) (v := (1)) (rfl) q780 rfl dX3_keyOf_27 ?_
    refine lv_if_ne (tgt := 46) hC.1 hC.2.1 dX3_keyOf_30 (by decide) (fun c_30 => ?_) (fun c_30 => absurd c_30 (by decide))
    refine lv_iconst (v := 0) hC.1 hC.2.1 dX3_keyOf_46 (by decide) ?_
    exact g_iret hC hG hr (rfl) (sS (σ) 24 ((1))) rfl (by simp only [mKeyOf, if_neg c_6]) hlocks dX3_keyOf_47
  · skip
    refine lv_iload_n hC.1 hC.2.1 dX3_keyOf_9 rfl (lv_at hl 2 rfl) ?_
    refine lv_iconst (v := 0) hC.1 hC.2.1 dX3_keyOf_10 (by decide) ?_
    refine lv_iconst (v := 2) hC.1 hC.2.1 dX3_keyOf_11 (by decide) ?_
    refine g_sP (As := [.int (k), .int ((0)), .int ((2))]) (rest := [.ref (h 25)]) hC (mt_in l (k) ((0)) ((2))) (va_cwS 3 hC.2.2.2.2 (lw_S q840 q841 q26 q842) rfl rfl rfl (by decide +kernel) ⟨Nat.le_of_ble_eq_true rfl, Nat.le_of_ble_eq_true rfl⟩) rfl hl.1 rfl (Nat.le_of_ble_eq_true rfl) dX3_keyOf_12 ⟨Nat.le_of_ble_eq_true rfl, Nat.le_of_ble_eq_true rfl⟩ (fun r hr9 => ?_)
    subst hr9
    refine b_eq (tgt := 22) hC dX3_keyOf_15 (by decide) (fun c_15 => ?_) (fun c_15 => ?_)
    · skip
      refine lv_iconst (v := 1) hC.1 hC.2.1 dX3_keyOf_22 (by decide) ?_
      refine m_puts hC hE hG 24 (by decide) q780 dX3_keyOf_23 (fun H locs hG => ?_)
      refine lv_aload_n hC.1 hC.2.1 dX3_keyOf_26 rfl (lv_at hl 0 rfl) ?_
      refine m_gets hC hE hG 24 (by decide) (fun _ => rfl) (v := (1)) (rfl) q780 rfl dX3_keyOf_27 ?_
      refine lv_if_ne (tgt := 46) hC.1 hC.2.1 dX3_keyOf_30 (by decide) (fun c_30 => ?_) (fun c_30 => absurd c_30 (by decide))
      refine lv_iconst (v := 0) hC.1 hC.2.1 dX3_keyOf_46 (by decide) ?_
      exact g_iret hC hG hr (rfl) (sS (σ) 24 ((1))) rfl (by simp only [mKeyOf, if_pos c_6, if_neg c_15]) hlocks dX3_keyOf_47
    · skip
      refine lv_iconst (v := 0) hC.1 hC.2.1 dX3_keyOf_18 (by decide) ?_
      refine lv_goto (tgt := 23) hC.1 hC.2.1 dX3_keyOf_19 (by decide) ?_
      refine m_puts hC hE hG 24 (by decide) q780 dX3_keyOf_23 (fun H locs hG => ?_)
      refine lv_aload_n hC.1 hC.2.1 dX3_keyOf_26 rfl (lv_at hl 0 rfl) ?_
      refine m_gets hC hE hG 24 (by decide) (fun _ => rfl) (v := (0)) (rfl) q780 rfl dX3_keyOf_27 ?_
      refine lv_if_ne (tgt := 46) hC.1 hC.2.1 dX3_keyOf_30 (by decide) (fun c_30 => absurd c_30 (by decide)) (fun c_30 => ?_)
      obtain ⟨rj, hrj, rfl⟩ : ∃ z, z < 80 ∧ r = nI z := ⟨tN r, (vp_nat (inR_in c_6.1 (by decide) rfl) (by decide)).2, (vp_nat (inR_in c_6.1 (by decide) rfl) (by decide)).1⟩
      have erj : tN (nI rj) = rj := tN_nI (by omega)
      obtain ⟨kj, hkj, rfl⟩ : ∃ z, z < 3 ∧ k = nI z := ⟨tN k, (vp_nat (inR_in c_15 (by decide) rfl) (by decide)).2, (vp_nat (inR_in c_15 (by decide) rfl) (by decide)).1⟩
      have ekj : tN (nI kj) = kj := tN_nI (by omega)
      refine lv_aload_n hC.1 hC.2.1 dX3_keyOf_33 rfl (lv_at hl 0 rfl) ?_
      refine m_geta hC hE hG 19 (by decide) (fun _ => rfl) q775 rfl dX3_keyOf_34 ?_
      refine lv_iconst (v := 3) hC.1 hC.2.1 dX3_keyOf_37 (by decide) ?_
      refine lv_iload_n hC.1 hC.2.1 dX3_keyOf_38 rfl (lv_at hl 1 rfl) ?_
      refine n_mul (a := 3) (b := rj) (d := 3 * rj) hC (by first | rfl | omega) dX3_keyOf_39 ?_
      refine lv_iload_n hC.1 hC.2.1 dX3_keyOf_40 rfl (lv_at hl 2 rfl) ?_
      refine n_add (a := 3 * rj) (b := kj) (d := 3 * rj + kj) hC (by first | rfl | omega) dX3_keyOf_41 ?_
      refine m_ild hC hE hG 19 (by decide) rfl (N := 240) rfl (by decide) (j := 3 * rj + kj) (v := σ.2 19 (3 * rj + kj)) (by omega) (rfl) dX3_keyOf_42 ?_
      refine lv_goto (tgt := 47) hC.1 hC.2.1 dX3_keyOf_43 (by decide) ?_
      exact g_iret hC hG hr (rfl) (sS (σ) 24 ((0))) rfl (by (simp only [mKeyOf, if_pos c_6, if_pos c_15]) <;> simp only [erj, ekj]) hlocks dX3_keyOf_47
set_option maxHeartbeats 4000000 in
theorem mt_fieldOf (l : Launch) (K : GK) (A : Nat → Prop) (G0 : GM) (h : Nat → Nat) (σ : MS) (r k : Int32) : Met l yX3_fieldOf (ws_ yX3_fieldOf cX3_fieldOf 3 (some .int)) ({ frames := 2, cells := 0, slots := 0, locals := 43 }) (va_Pc ([.ref (h 25), .int (r), .int (k)]) (gW K A (mput K.2.1 h (σ) G0))) (va_Qi (fun (r9 : Int32) (u9 : MS) => (r9, u9) = mFieldOf σ r k) (fun u t => gB K A (mput K.2.1 h u G0) t) A) 0 0 (A) := by
  refine g_ofW (cc := cX3_fieldOf) (by decide) (own := RX3) rfl (Nat.le_of_ble_eq_true rfl) ?_
  intro p e s m below meth c hC hr hlocks hnm hE hG ls hl
  have hl : lv_has ls 3 [(0, .ref (h 25)), (1, .int (r)), (2, .int (k))] := hl
  refine lv_aload_n hC.1 hC.2.1 dX3_fieldOf_0 rfl (lv_at hl 0 rfl) ?_
  refine lv_aload_n hC.1 hC.2.1 dX3_fieldOf_1 rfl (lv_at hl 0 rfl) ?_
  refine lv_iload_n hC.1 hC.2.1 dX3_fieldOf_2 rfl (lv_at hl 1 rfl) ?_
  refine g_roV (As := [.int (r)]) (rest := [.ref (h 25)]) hC hE hG (mt_isRecord l K A G0 h (σ) (r)) (cwV 1 hC.2.2.2.2 (lw_V q899 q901 qs16 q26 q902) rfl rfl rfl (by decide +kernel) ⟨Nat.le_of_ble_eq_true rfl, Nat.le_of_ble_eq_true rfl⟩) (mput_o _ _ _ _) rfl rfl hl.1 rfl (Nat.le_of_ble_eq_true rfl) dX3_fieldOf_3 ⟨Nat.le_of_ble_eq_true rfl, Nat.le_of_ble_eq_true rfl⟩ (fun r hr9 => ?_)
  subst hr9
  refine b_eq (tgt := 22) hC dX3_fieldOf_6 (by decide) (fun c_6 => ?_) (fun c_6 => ?_)
  · skip
    refine lv_iconst (v := 1) hC.1 hC.2.1 dX3_fieldOf_22 (by decide) ?_
    refine m_puts hC hE hG 24 (by decide) q780 dX3_fieldOf_23 (fun H locs hG => ?_)
    refine lv_aload_n hC.1 hC.2.1 dX3_fieldOf_26 rfl (lv_at hl 0 rfl) ?_
    refine m_gets hC hE hG 24 (by decide) (fun _ => rfl) (v := (1)) (rfl) q780 rfl dX3_fieldOf_27 ?_
    refine lv_if_ne (tgt := 46) hC.1 hC.2.1 dX3_fieldOf_30 (by decide) (fun c_30 => ?_) (fun c_30 => absurd c_30 (by decide))
    refine lv_iconst (v := 0) hC.1 hC.2.1 dX3_fieldOf_46 (by decide) ?_
    exact g_iret hC hG hr (rfl) (sS (σ) 24 ((1))) rfl (by simp only [mFieldOf, if_neg c_6]) hlocks dX3_fieldOf_47
  · skip
    refine lv_iload_n hC.1 hC.2.1 dX3_fieldOf_9 rfl (lv_at hl 2 rfl) ?_
    refine lv_iconst (v := 0) hC.1 hC.2.1 dX3_fieldOf_10 (by decide) ?_
    refine lv_iconst (v := 3) hC.1 hC.2.1 dX3_fieldOf_11 (by decide) ?_
    refine g_sP (As := [.int (k), .int ((0)), .int ((3))]) (rest := [.ref (h 25)]) hC (mt_in l (k) ((0)) ((3))) (va_cwS 3 hC.2.2.2.2 (lw_S q840 q841 q26 q842) rfl rfl rfl (by decide +kernel) ⟨Nat.le_of_ble_eq_true rfl, Nat.le_of_ble_eq_true rfl⟩) rfl hl.1 rfl (Nat.le_of_ble_eq_true rfl) dX3_fieldOf_12 ⟨Nat.le_of_ble_eq_true rfl, Nat.le_of_ble_eq_true rfl⟩ (fun r hr9 => ?_)
    subst hr9
    refine b_eq (tgt := 22) hC dX3_fieldOf_15 (by decide) (fun c_15 => ?_) (fun c_15 => ?_)
    · skip
      refine lv_iconst (v := 1) hC.1 hC.2.1 dX3_fieldOf_22 (by decide) ?_
      refine m_puts hC hE hG 24 (by decide) q780 dX3_fieldOf_23 (fun H locs hG => ?_)
      refine lv_aload_n hC.1 hC.2.1 dX3_fieldOf_26 rfl (lv_at hl 0 rfl) ?_
      refine m_gets hC hE hG 24 (by decide) (fun _ => rfl) (v := (1)) (rfl) q780 rfl dX3_fieldOf_27 ?_
      refine lv_if_ne (tgt := 46) hC.1 hC.2.1 dX3_fieldOf_30 (by decide) (fun c_30 => ?_) (fun c_30 => absurd c_30 (by decide))
      refine lv_iconst (v := 0) hC.1 hC.2.1 dX3_fieldOf_46 (by decide) ?_
      exact g_iret hC hG hr (rfl) (sS (σ) 24 ((1))) rfl (by simp only [mFieldOf, if_pos c_6, if_neg c_15]) hlocks dX3_fieldOf_47
    · skip
      refine lv_iconst (v := 0) hC.1 hC.2.1 dX3_fieldOf_18 (by decide) ?_
      refine lv_goto (tgt := 23) hC.1 hC.2.1 dX3_fieldOf_19 (by decide) ?_
      refine m_puts hC hE hG 24 (by decide) q780 dX3_fieldOf_23 (fun H locs hG => ?_)
      refine lv_aload_n hC.1 hC.2.1 dX3_fieldOf_26 rfl (lv_at hl 0 rfl) ?_
      refine m_gets hC hE hG 24 (by decide) (fun _ => rfl) (v := (0)) (rfl) q780 rfl dX3_fieldOf_27 ?_
      refine lv_if_ne (tgt := 46) hC.1 hC.2.1 dX3_fieldOf_30 (by decide) (fun c_30 => absurd c_30 (by decide)) (fun c_30 => ?_)
      obtain ⟨rj, hrj, rfl⟩ : ∃ z, z < 80 ∧ r = nI z := ⟨tN r, (vp_nat (inR_in c_6.1 (by decide) rfl) (by decide)).2, (vp_nat (inR_in c_6.1 (by decide) rfl) (by decide)).1⟩
      have erj : tN (nI rj) = rj := tN_nI (by omega)
      obtain ⟨kj, hkj, rfl⟩ : ∃ z, z < 4 ∧ k = nI z := ⟨tN k, (vp_nat (inR_in c_15 (by decide) rfl) (by decide)).2, (vp_nat (inR_in c_15 (by decide) rfl) (by decide)).1⟩
      have ekj : tN (nI kj) = kj := tN_nI (by omega)
      refine lv_aload_n hC.1 hC.2.1 dX3_fieldOf_33 rfl (lv_at hl 0 rfl) ?_
      refine m_geta hC hE hG 20 (by decide) (fun _ => rfl) q776 rfl dX3_fieldOf_34 ?_
      refine lv_iconst (v := 4) hC.1 hC.2.1 dX3_fieldOf_37 (by decide) ?_
      refine lv_iload_n hC.1 hC.2.1 dX3_fieldOf_38 rfl (lv_at hl 1 rfl) ?_
      refine n_mul (a := 4) (b := rj) (d := 4 * rj) hC (by first | rfl | omega) dX3_fieldOf_39 ?_
      refine lv_iload_n hC.1 hC.2.1 dX3_fieldOf_40 rfl (lv_at hl 2 rfl) ?_
      refine n_add (a := 4 * rj) (b := kj) (d := 4 * rj + kj) hC (by first | rfl | omega) dX3_fieldOf_41 ?_
      refine m_ild hC hE hG 20 (by decide) rfl (N := 320) rfl (by decide) (j := 4 * rj + kj) (v := σ.2 20 (4 * rj + kj)) (by omega) (rfl) dX3_fieldOf_42 ?_
      refine lv_goto (tgt := 47) hC.1 hC.2.1 dX3_fieldOf_43 (by decide) ?_
      exact g_iret hC hG hr (rfl) (sS (σ) 24 ((0))) rfl (by (simp only [mFieldOf, if_pos c_6, if_pos c_15]) <;> simp only [erj, ekj]) hlocks dX3_fieldOf_47
set_option maxHeartbeats 4000000 in
theorem mt_sourceOf (l : Launch) (K : GK) (A : Nat → Prop) (G0 : GM) (h : Nat → Nat) (σ : MS) (r k : Int32) : Met l yX3_sourceOf (ws_ yX3_sourceOf cX3_sourceOf 3 (some .int)) ({ frames := 2, cells := 0, slots := 0, locals := 43 }) (va_Pc ([.ref (h 25), .int (r), .int (k)]) (gW K A (mput K.2.1 h (σ) G0))) (va_Qi (fun (r9 : Int32) (u9 : MS) => (r9, u9) = mSourceOf σ r k) (fun u t => gB K A (mput K.2.1 h u G0) t) A) 0 0 (A) := by
  refine g_ofW (cc := cX3_sourceOf) (by decide) (own := RX3) rfl (Nat.le_of_ble_eq_true rfl) ?_
  intro p e s m below meth c hC hr hlocks hnm hE hG ls hl
  have hl : lv_has ls 3 [(0, .ref (h 25)), (1, .int (r)), (2, .int (k))] := hl
  refine lv_aload_n hC.1 hC.2.1 dX3_sourceOf_0 rfl (lv_at hl 0 rfl) ?_
  refine lv_aload_n hC.1 hC.2.1 dX3_sourceOf_1 rfl (lv_at hl 0 rfl) ?_
  refine lv_iload_n hC.1 hC.2.1 dX3_sourceOf_2 rfl (lv_at hl 1 rfl) ?_
  refine g_roV (As := [.int (r)]) (rest := [.ref (h 25)]) hC hE hG (mt_isRecord l K A G0 h (σ) (r)) (cwV 1 hC.2.2.2.2 (lw_V q899 q901 qs16 q26 q902) rfl rfl rfl (by decide +kernel) ⟨Nat.le_of_ble_eq_true rfl, Nat.le_of_ble_eq_true rfl⟩) (mput_o _ _ _ _) rfl rfl hl.1 rfl (Nat.le_of_ble_eq_true rfl) dX3_sourceOf_3 ⟨Nat.le_of_ble_eq_true rfl, Nat.le_of_ble_eq_true rfl⟩ (fun r hr9 => ?_)
  subst hr9
  refine b_eq (tgt := 22) hC dX3_sourceOf_6 (by decide) (fun c_6 => ?_) (fun c_6 => ?_)
  · skip
    refine lv_iconst (v := 1) hC.1 hC.2.1 dX3_sourceOf_22 (by decide) ?_
    refine m_puts hC hE hG 24 (by decide) q780 dX3_sourceOf_23 (fun H locs hG => ?_)
    refine lv_aload_n hC.1 hC.2.1 dX3_sourceOf_26 rfl (lv_at hl 0 rfl) ?_
    refine m_gets hC hE hG 24 (by decide) (fun _ => rfl) (v := (1)) (rfl) q780 rfl dX3_sourceOf_27 ?_
    refine lv_if_ne (tgt := 46) hC.1 hC.2.1 dX3_sourceOf_30 (by decide) (fun c_30 => ?_) (fun c_30 => absurd c_30 (by decide))
    refine lv_iconst (v := 0) hC.1 hC.2.1 dX3_sourceOf_46 (by decide) ?_
    exact g_iret hC hG hr (rfl) (sS (σ) 24 ((1))) rfl (by simp only [mSourceOf, if_neg c_6]) hlocks dX3_sourceOf_47
  · skip
    refine lv_iload_n hC.1 hC.2.1 dX3_sourceOf_9 rfl (lv_at hl 2 rfl) ?_
    refine lv_iconst (v := 0) hC.1 hC.2.1 dX3_sourceOf_10 (by decide) ?_
    refine lv_iconst (v := 3) hC.1 hC.2.1 dX3_sourceOf_11 (by decide) ?_
    refine g_sP (As := [.int (k), .int ((0)), .int ((3))]) (rest := [.ref (h 25)]) hC (mt_in l (k) ((0)) ((3))) (va_cwS 3 hC.2.2.2.2 (lw_S q840 q841 q26 q842) rfl rfl rfl (by decide +kernel) ⟨Nat.le_of_ble_eq_true rfl, Nat.le_of_ble_eq_true rfl⟩) rfl hl.1 rfl (Nat.le_of_ble_eq_true rfl) dX3_sourceOf_12 ⟨Nat.le_of_ble_eq_true rfl, Nat.le_of_ble_eq_true rfl⟩ (fun r hr9 => ?_)
    subst hr9
    refine b_eq (tgt := 22) hC dX3_sourceOf_15 (by decide) (fun c_15 => ?_) (fun c_15 => ?_)
    · skip
      refine lv_iconst (v := 1) hC.1 hC.2.1 dX3_sourceOf_22 (by decide) ?_
      refine m_puts hC hE hG 24 (by decide) q780 dX3_sourceOf_23 (fun H locs hG => ?_)
      refine lv_aload_n hC.1 hC.2.1 dX3_sourceOf_26 rfl (lv_at hl 0 rfl) ?_
      refine m_gets hC hE hG 24 (by decide) (fun _ => rfl) (v := (1)) (rfl) q780 rfl dX3_sourceOf_27 ?_
      refine lv_if_ne (tgt := 46) hC.1 hC.2.1 dX3_sourceOf_30 (by decide) (fun c_30 => ?_) (fun c_30 => absurd c_30 (by decide))
      refine lv_iconst (v := 0) hC.1 hC.2.1 dX3_sourceOf_46 (by decide) ?_
      exact g_iret hC hG hr (rfl) (sS (σ) 24 ((1))) rfl (by simp only [mSourceOf, if_pos c_6, if_neg c_15]) hlocks dX3_sourceOf_47
    · skip
      refine lv_iconst (v := 0) hC.1 hC.2.1 dX3_sourceOf_18 (by decide) ?_
      refine lv_goto (tgt := 23) hC.1 hC.2.1 dX3_sourceOf_19 (by decide) ?_
      refine m_puts hC hE hG 24 (by decide) q780 dX3_sourceOf_23 (fun H locs hG => ?_)
      refine lv_aload_n hC.1 hC.2.1 dX3_sourceOf_26 rfl (lv_at hl 0 rfl) ?_
      refine m_gets hC hE hG 24 (by decide) (fun _ => rfl) (v := (0)) (rfl) q780 rfl dX3_sourceOf_27 ?_
      refine lv_if_ne (tgt := 46) hC.1 hC.2.1 dX3_sourceOf_30 (by decide) (fun c_30 => absurd c_30 (by decide)) (fun c_30 => ?_)
      obtain ⟨rj, hrj, rfl⟩ : ∃ z, z < 80 ∧ r = nI z := ⟨tN r, (vp_nat (inR_in c_6.1 (by decide) rfl) (by decide)).2, (vp_nat (inR_in c_6.1 (by decide) rfl) (by decide)).1⟩
      have erj : tN (nI rj) = rj := tN_nI (by omega)
      obtain ⟨kj, hkj, rfl⟩ : ∃ z, z < 4 ∧ k = nI z := ⟨tN k, (vp_nat (inR_in c_15 (by decide) rfl) (by decide)).2, (vp_nat (inR_in c_15 (by decide) rfl) (by decide)).1⟩
      have ekj : tN (nI kj) = kj := tN_nI (by omega)
      refine lv_aload_n hC.1 hC.2.1 dX3_sourceOf_33 rfl (lv_at hl 0 rfl) ?_
      refine m_geta hC hE hG 21 (by decide) (fun _ => rfl) q777 rfl dX3_sourceOf_34 ?_
      refine lv_iconst (v := 4) hC.1 hC.2.1 dX3_sourceOf_37 (by decide) ?_
      refine lv_iload_n hC.1 hC.2.1 dX3_sourceOf_38 rfl (lv_at hl 1 rfl) ?_
      refine n_mul (a := 4) (b := rj) (d := 4 * rj) hC (by first | rfl | omega) dX3_sourceOf_39 ?_
      refine lv_iload_n hC.1 hC.2.1 dX3_sourceOf_40 rfl (lv_at hl 2 rfl) ?_
      refine n_add (a := 4 * rj) (b := kj) (d := 4 * rj + kj) hC (by first | rfl | omega) dX3_sourceOf_41 ?_
      refine m_ild hC hE hG 21 (by decide) rfl (N := 320) rfl (by decide) (j := 4 * rj + kj) (v := σ.2 21 (4 * rj + kj)) (by omega) (rfl) dX3_sourceOf_42 ?_
      refine lv_goto (tgt := 47) hC.1 hC.2.1 dX3_sourceOf_43 (by decide) ?_
      exact g_iret hC hG hr (rfl) (sS (σ) 24 ((0))) rfl (by (simp only [mSourceOf, if_pos c_6, if_pos c_15]) <;> simp only [erj, ekj]) hlocks dX3_sourceOf_47
set_option maxHeartbeats 4000000 in
theorem mt_holdings (l : Launch) (K : GK) (A : Nat → Prop) (G0 : GM) (h : Nat → Nat) (σ : MS) (r : Int32) : Met l yX3_holdings (ws_ yX3_holdings cX3_holdings 2 (some .int)) ({ frames := 2, cells := 0, slots := 0, locals := 43 }) (va_Pc ([.ref (h 25), .int (r)]) (gW K A (mput K.2.1 h (σ) G0))) (va_Qi (fun (r9 : Int32) (u9 : MS) => (r9, u9) = mHoldings σ r) (fun u t => gB K A (mput K.2.1 h u G0) t) A) 0 0 (A) := by
  refine g_ofW (cc := cX3_holdings) (by decide) (own := RX3) rfl (Nat.le_of_ble_eq_true rfl) ?_
  intro p e s m below meth c hC hr hlocks hnm hE hG ls hl
  have hl : lv_has ls 2 [(0, .ref (h 25)), (1, .int (r))] := hl
  refine lv_aload_n hC.1 hC.2.1 dX3_holdings_0 rfl (lv_at hl 0 rfl) ?_
  refine lv_aload_n hC.1 hC.2.1 dX3_holdings_1 rfl (lv_at hl 0 rfl) ?_
  refine lv_iload_n hC.1 hC.2.1 dX3_holdings_2 rfl (lv_at hl 1 rfl) ?_
  refine g_roV (As := [.int (r)]) (rest := [.ref (h 25)]) hC hE hG (mt_isRecord l K A G0 h (σ) (r)) (cwV 1 hC.2.2.2.2 (lw_V q899 q901 qs16 q26 q902) rfl rfl rfl (by decide +kernel) ⟨Nat.le_of_ble_eq_true rfl, Nat.le_of_ble_eq_true rfl⟩) (mput_o _ _ _ _) rfl rfl hl.1 rfl (Nat.le_of_ble_eq_true rfl) dX3_holdings_3 ⟨Nat.le_of_ble_eq_true rfl, Nat.le_of_ble_eq_true rfl⟩ (fun r hr9 => ?_)
  subst hr9
  refine b_eq (tgt := 13) hC dX3_holdings_6 (by decide) (fun c_6 => ?_) (fun c_6 => ?_)
  · skip
    refine lv_iconst (v := 1) hC.1 hC.2.1 dX3_holdings_13 (by decide) ?_
    refine m_puts hC hE hG 24 (by decide) q780 dX3_holdings_14 (fun H locs hG => ?_)
    refine lv_aload_n hC.1 hC.2.1 dX3_holdings_17 rfl (lv_at hl 0 rfl) ?_
    refine m_gets hC hE hG 24 (by decide) (fun _ => rfl) (v := (1)) (rfl) q780 rfl dX3_holdings_18 ?_
    refine lv_if_ne (tgt := 33) hC.1 hC.2.1 dX3_holdings_21 (by decide) (fun c_21 => ?_) (fun c_21 => absurd c_21 (by decide))
    refine lv_iconst (v := 0) hC.1 hC.2.1 dX3_holdings_33 (by decide) ?_
    exact g_iret hC hG hr (rfl) (sS (σ) 24 ((1))) rfl (by simp only [mHoldings, if_neg c_6, if_true, if_false]) hlocks dX3_holdings_34
  · skip
    refine lv_iconst (v := 0) hC.1 hC.2.1 dX3_holdings_9 (by decide) ?_
    refine lv_goto (tgt := 14) hC.1 hC.2.1 dX3_holdings_10 (by decide) ?_
    refine m_puts hC hE hG 24 (by decide) q780 dX3_holdings_14 (fun H locs hG => ?_)
    refine lv_aload_n hC.1 hC.2.1 dX3_holdings_17 rfl (lv_at hl 0 rfl) ?_
    refine m_gets hC hE hG 24 (by decide) (fun _ => rfl) (v := (0)) (rfl) q780 rfl dX3_holdings_18 ?_
    refine lv_if_ne (tgt := 33) hC.1 hC.2.1 dX3_holdings_21 (by decide) (fun c_21 => absurd c_21 (by decide)) (fun c_21 => ?_)
    refine lv_aload_n hC.1 hC.2.1 dX3_holdings_24 rfl (lv_at hl 0 rfl) ?_
    refine m_geta hC hE hG 23 (by decide) (fun _ => rfl) q779 rfl dX3_holdings_25 ?_
    refine lv_iload_n hC.1 hC.2.1 dX3_holdings_28 rfl (lv_at hl 1 rfl) ?_
    refine m_iald hC hE hG 23 (by decide) rfl (N := 80) rfl (i := r) (v := σ.2 23 (tN (r))) (inR_in c_6.1 (by decide) rfl) (rfl) dX3_holdings_29 ?_
    refine lv_goto (tgt := 34) hC.1 hC.2.1 dX3_holdings_30 (by decide) ?_
    exact g_iret hC hG hr (rfl) (sS (σ) 24 ((0))) rfl (by simp only [mHoldings, if_pos c_6, if_true, if_false]) hlocks dX3_holdings_34
set_option maxHeartbeats 4000000 in
theorem mt_sum (l : Launch) (K : GK) (A : Nat → Prop) (G0 : GM) (h : Nat → Nat) (σ : MS)  : Met l yX3_sum (ws_ yX3_sum cX3_sum 5 (some .int)) ({ frames := 0, cells := 0, slots := 0, locals := 0 }) (va_Pc ([.ref (h 25)]) (gW K A (mput K.2.1 h (σ) G0))) (vp_Si (fun r9 => r9 = mSum σ 80)) 0 0 (fun _ => False) := by
  refine g_ofW (cc := cX3_sum) (by decide) (own := RX3) rfl (Nat.le_of_ble_eq_true rfl) ?_
  intro p e s m below meth c hC hr hlocks hnm hE hG ls hl
  have hl : lv_has ls 5 [(0, .ref (h 25))] := hl
  refine lv_iconst (v := 0) hC.1 hC.2.1 dX3_sum_0 (by decide) ?_
  refine lv_istore_n (lv' := [(1, .int ((0))), (0, .ref (h 25))]) hC.1 hC.2.1 dX3_sum_1 rfl hl (by decide) rfl (fun ls hl => ?_)
  refine lv_iconst (v := 0) hC.1 hC.2.1 dX3_sum_2 (by decide) ?_
  refine lv_istore_n (lv' := [(2, .int ((0))), (1, .int ((0))), (0, .ref (h 25))]) hC.1 hC.2.1 dX3_sum_3 rfl hl (by decide) rfl (fun ls hl => ?_)
  have lp4 : ∀ (nn i4 : Nat), i4 + nn = 80 → ∀ ls : Array Slot, lv_has ls 5 [(2, .int (nI (i4))), (1, .int (mSum σ (i4))), (0, .ref (h 25))] → W p l e ({ frames := 0, cells := 0, slots := 0, locals := 0 }) s m ([.ref (h 25)] : List Value).toArray below meth c s.heap [] 0 0 (MQ below (vp_Si (fun r9 => r9 = mSum σ 80)) ([.ref (h 25)] : List Value).toArray s 0 0 (fun _ => False)) (F0 m 4 ls []) := by
    intro nn
    induction nn with
    | zero =>
      intro i4 hi4 ls hl
      obtain rfl : 80 = i4 := by omega
      refine lv_iload_n hC.1 hC.2.1 dX3_sum_4 rfl (lv_at hl 0 rfl) ?_
      refine lv_bipush (v := 80) hC.1 hC.2.1 dX3_sum_5 (by decide) ?_
      refine n_ge (a := 80) (b := 80) hC (by omega) (by omega) (tgt := 142) dX3_sum_7 (by decide) (fun c_7 => ?_) (fun c_7 => absurd c_7 (by omega))
      refine lv_iload_n hC.1 hC.2.1 dX3_sum_142 rfl (lv_at hl 1 rfl) ?_
      exact g_roret hC hr (rfl) (by rfl) hlocks dX3_sum_143
    | succ nn ih4 =>
      intro i4 hi4 ls hl
      have hlt4 : i4 < 80 := by omega
      refine lv_iload_n hC.1 hC.2.1 dX3_sum_4 rfl (lv_at hl 0 rfl) ?_
      refine lv_bipush (v := 80) hC.1 hC.2.1 dX3_sum_5 (by decide) ?_
      refine n_ge (a := i4) (b := 80) hC (by omega) (by omega) (tgt := 142) dX3_sum_7 (by decide) (fun c_7 => absurd c_7 (by omega)) (fun c_7 => ?_)
      refine lv_iconst (v := 0) hC.1 hC.2.1 dX3_sum_10 (by decide) ?_
      refine lv_istore_n (lv' := [(3, .int ((0))), (2, .int (nI (i4))), (1, .int (mSum σ (i4))), (0, .ref (h 25))]) hC.1 hC.2.1 dX3_sum_11 rfl hl (by decide) rfl (fun ls hl => ?_)
      refine lv_iconst (v := 0) hC.1 hC.2.1 dX3_sum_12 (by decide) ?_
      refine lv_istore (lv' := [(4, .int ((0))), (3, .int ((0))), (2, .int (nI (i4))), (1, .int (mSum σ (i4))), (0, .ref (h 25))]) hC.1 hC.2.1 dX3_sum_13 hl (by decide) rfl (fun ls hl => ?_)
      have lp15 : ∀ (nn i15 : Nat), i15 + nn = 3 → ∀ ls : Array Slot, lv_has ls 5 [(4, .int (nI (i15))), (3, .int (mOwnK σ i4 (i15))), (2, .int (nI (i4))), (1, .int (mSum σ (i4))), (0, .ref (h 25))] → W p l e ({ frames := 0, cells := 0, slots := 0, locals := 0 }) s m ([.ref (h 25)] : List Value).toArray below meth c s.heap [] 0 0 (MQ below (vp_Si (fun r9 => r9 = mSum σ 80)) ([.ref (h 25)] : List Value).toArray s 0 0 (fun _ => False)) (F0 m 15 ls []) := by
        intro nn
        induction nn with
        | zero =>
          intro i15 hi15 ls hl
          obtain rfl : 3 = i15 := by omega
          refine lv_iload hC.1 hC.2.1 dX3_sum_15 (lv_at hl 0 rfl) ?_
          refine lv_iconst (v := 3) hC.1 hC.2.1 dX3_sum_17 (by decide) ?_
          refine n_ge (a := 3) (b := 3) hC (by omega) (by omega) (tgt := 60) dX3_sum_18 (by decide) (fun c_18 => ?_) (fun c_18 => absurd c_18 (by omega))
          refine lv_iconst (v := 0) hC.1 hC.2.1 dX3_sum_60 (by decide) ?_
          refine lv_istore (lv' := [(4, .int ((0))), (3, .int (mOwnK σ i4 (3))), (2, .int (nI (i4))), (1, .int (mSum σ (i4))), (0, .ref (h 25))]) hC.1 hC.2.1 dX3_sum_61 hl (by decide) rfl (fun ls hl => ?_)
          have lp63 : ∀ (nn i63 : Nat), i63 + nn = 4 → ∀ ls : Array Slot, lv_has ls 5 [(4, .int (nI (i63))), (3, .int (mOwnF σ i4 (i63))), (2, .int (nI (i4))), (1, .int (mSum σ (i4))), (0, .ref (h 25))] → W p l e ({ frames := 0, cells := 0, slots := 0, locals := 0 }) s m ([.ref (h 25)] : List Value).toArray below meth c s.heap [] 0 0 (MQ below (vp_Si (fun r9 => r9 = mSum σ 80)) ([.ref (h 25)] : List Value).toArray s 0 0 (fun _ => False)) (F0 m 63 ls []) := by
            intro nn
            induction nn with
            | zero =>
              intro i63 hi63 ls hl
              obtain rfl : 4 = i63 := by omega
              refine lv_iload hC.1 hC.2.1 dX3_sum_63 (lv_at hl 0 rfl) ?_
              refine lv_iconst (v := 4) hC.1 hC.2.1 dX3_sum_65 (by decide) ?_
              refine n_ge (a := 4) (b := 4) hC (by omega) (by omega) (tgt := 108) dX3_sum_66 (by decide) (fun c_66 => ?_) (fun c_66 => absurd c_66 (by omega))
              refine lv_iload_n hC.1 hC.2.1 dX3_sum_108 rfl (lv_at hl 3 rfl) ?_
              refine lv_aload_n hC.1 hC.2.1 dX3_sum_109 rfl (lv_at hl 4 rfl) ?_
              refine m_geta hC hE hG 18 (by decide) (fun _ => rfl) q774 rfl dX3_sum_110 ?_
              refine lv_iload_n hC.1 hC.2.1 dX3_sum_113 rfl (lv_at hl 2 rfl) ?_
              refine m_zld hC hE hG 18 (by decide) rfl (N := 80) rfl (by decide) (j := i4) (v := σ.2 18 i4) (by omega) (rfl) dX3_sum_114 ?_
              refine lv_if_eq (tgt := 133) hC.1 hC.2.1 dX3_sum_115 (by decide) (fun c_115 => ?_) (fun c_115 => ?_)
              · skip
                refine lv_iconst (v := 0) hC.1 hC.2.1 dX3_sum_133 (by decide) ?_
                refine lv_iadd hC.1 hC.2.1 dX3_sum_134 ?_
                refine lv_istore_n (lv' := [(1, .int ((mSum σ (i4)) + (0))), (4, .int (nI (4))), (3, .int (mOwnF σ i4 (4))), (2, .int (nI (i4))), (0, .ref (h 25))]) hC.1 hC.2.1 dX3_sum_135 rfl hl (by decide) rfl (fun ls hl => ?_)
                refine lv_iinc (v := nI (i4 + 1)) (lv' := [(2, .int (nI (i4 + 1))), (1, .int ((mSum σ (i4)) + (0))), (4, .int (nI (4))), (3, .int (mOwnF σ i4 (4))), (0, .ref (h 25))]) hC.1 hC.2.1 dX3_sum_136 hl (k := 3) rfl (n_inc _) (by decide) rfl (fun ls hl => ?_)
                refine lv_goto (tgt := 4) hC.1 hC.2.1 dX3_sum_139 (by decide) ?_
                have hl : lv_has ls 5 [(2, .int (nI (i4 + 1))), (1, .int (mSum σ (i4 + 1))), (0, .ref (h 25))] := by
                  have e1 : mSum σ (i4 + 1) = (mSum σ (i4)) + (0) := by
                    simp only [mSum, if_pos c_115, if_true, if_false]
                  rw [e1]
                  exact lv_sub hl [0, 1, 4] rfl
                exact ih4 (i4 + 1) (by omega) ls (lv_sub hl [0, 1, 2] rfl)
              · skip
                refine lv_iload_n hC.1 hC.2.1 dX3_sum_118 rfl (lv_at hl 1 rfl) ?_
                refine lv_iconst (v := 1) hC.1 hC.2.1 dX3_sum_119 (by decide) ?_
                refine lv_iload_n hC.1 hC.2.1 dX3_sum_120 rfl (lv_at hl 2 rfl) ?_
                refine n_add (a := 1) (b := i4) (d := 1 + i4) hC (by first | rfl | omega) dX3_sum_121 ?_
                refine lv_imul hC.1 hC.2.1 dX3_sum_122 ?_
                refine lv_aload_n hC.1 hC.2.1 dX3_sum_123 rfl (lv_at hl 4 rfl) ?_
                refine m_geta hC hE hG 23 (by decide) (fun _ => rfl) q779 rfl dX3_sum_124 ?_
                refine lv_iload_n hC.1 hC.2.1 dX3_sum_127 rfl (lv_at hl 2 rfl) ?_
                refine m_ild hC hE hG 23 (by decide) rfl (N := 80) rfl (by decide) (j := i4) (v := σ.2 23 i4) (by omega) (rfl) dX3_sum_128 ?_
                refine lv_iadd hC.1 hC.2.1 dX3_sum_129 ?_
                refine lv_goto (tgt := 134) hC.1 hC.2.1 dX3_sum_130 (by decide) ?_
                refine lv_iadd hC.1 hC.2.1 dX3_sum_134 ?_
                refine lv_istore_n (lv' := [(1, .int ((mSum σ (i4)) + (((mOwnF σ i4 (4)) * (nI (1 + i4))) + σ.2 23 i4))), (4, .int (nI (4))), (3, .int (mOwnF σ i4 (4))), (2, .int (nI (i4))), (0, .ref (h 25))]) hC.1 hC.2.1 dX3_sum_135 rfl hl (by decide) rfl (fun ls hl => ?_)
                refine lv_iinc (v := nI (i4 + 1)) (lv' := [(2, .int (nI (i4 + 1))), (1, .int ((mSum σ (i4)) + (((mOwnF σ i4 (4)) * (nI (1 + i4))) + σ.2 23 i4))), (4, .int (nI (4))), (3, .int (mOwnF σ i4 (4))), (0, .ref (h 25))]) hC.1 hC.2.1 dX3_sum_136 hl (k := 3) rfl (n_inc _) (by decide) rfl (fun ls hl => ?_)
                refine lv_goto (tgt := 4) hC.1 hC.2.1 dX3_sum_139 (by decide) ?_
                have hl : lv_has ls 5 [(2, .int (nI (i4 + 1))), (1, .int (mSum σ (i4 + 1))), (0, .ref (h 25))] := by
                  have e1 : mSum σ (i4 + 1) = (mSum σ (i4)) + (((mOwnF σ i4 (4)) * (nI (1 + i4))) + σ.2 23 i4) := by
                    simp only [mSum, if_neg c_115, if_true, if_false]
                  rw [e1]
                  exact lv_sub hl [0, 1, 4] rfl
                exact ih4 (i4 + 1) (by omega) ls (lv_sub hl [0, 1, 2] rfl)
            | succ nn ih63 =>
              intro i63 hi63 ls hl
              have hlt63 : i63 < 4 := by omega
              refine lv_iload hC.1 hC.2.1 dX3_sum_63 (lv_at hl 0 rfl) ?_
              refine lv_iconst (v := 4) hC.1 hC.2.1 dX3_sum_65 (by decide) ?_
              refine n_ge (a := i63) (b := 4) hC (by omega) (by omega) (tgt := 108) dX3_sum_66 (by decide) (fun c_66 => absurd c_66 (by omega)) (fun c_66 => ?_)
              refine lv_iload_n hC.1 hC.2.1 dX3_sum_69 rfl (lv_at hl 1 rfl) ?_
              refine lv_aload_n hC.1 hC.2.1 dX3_sum_70 rfl (lv_at hl 4 rfl) ?_
              refine m_geta hC hE hG 20 (by decide) (fun _ => rfl) q776 rfl dX3_sum_71 ?_
              refine lv_iconst (v := 4) hC.1 hC.2.1 dX3_sum_74 (by decide) ?_
              refine lv_iload_n hC.1 hC.2.1 dX3_sum_75 rfl (lv_at hl 2 rfl) ?_
              refine n_mul (a := 4) (b := i4) (d := 4 * i4) hC (by first | rfl | omega) dX3_sum_76 ?_
              refine lv_iload hC.1 hC.2.1 dX3_sum_77 (lv_at hl 0 rfl) ?_
              refine n_add (a := 4 * i4) (b := i63) (d := 4 * i4 + i63) hC (by first | rfl | omega) dX3_sum_79 ?_
              refine m_ild hC hE hG 20 (by decide) rfl (N := 320) rfl (by decide) (j := 4 * i4 + i63) (v := σ.2 20 (4 * i4 + i63)) (by omega) (rfl) dX3_sum_80 ?_
              refine lv_iconst (v := -1) hC.1 hC.2.1 dX3_sum_81 (by decide) ?_
              refine lv_icmp_ne (tgt := 89) hC.1 hC.2.1 dX3_sum_82 (by decide) (fun c_82 => ?_) (fun c_82 => ?_)
              · skip
                refine lv_aload_n hC.1 hC.2.1 dX3_sum_89 rfl (lv_at hl 4 rfl) ?_
                refine m_geta hC hE hG 20 (by decide) (fun _ => rfl) q776 rfl dX3_sum_90 ?_
                refine lv_iconst (v := 4) hC.1 hC.2.1 dX3_sum_93 (by decide) ?_
                refine lv_iload_n hC.1 hC.2.1 dX3_sum_94 rfl (lv_at hl 2 rfl) ?_
                refine n_mul (a := 4) (b := i4) (d := 4 * i4) hC (by first | rfl | omega) dX3_sum_95 ?_
                refine lv_iload hC.1 hC.2.1 dX3_sum_96 (lv_at hl 0 rfl) ?_
                refine n_add (a := 4 * i4) (b := i63) (d := 4 * i4 + i63) hC (by first | rfl | omega) dX3_sum_98 ?_
                refine m_ild hC hE hG 20 (by decide) rfl (N := 320) rfl (by decide) (j := 4 * i4 + i63) (v := σ.2 20 (4 * i4 + i63)) (by omega) (rfl) dX3_sum_99 ?_
                refine lv_iadd hC.1 hC.2.1 dX3_sum_100 ?_
                refine lv_istore_n (lv' := [(3, .int ((mOwnF σ i4 (i63)) + (σ.2 20 (4 * i4 + i63)))), (4, .int (nI (i63))), (2, .int (nI (i4))), (1, .int (mSum σ (i4))), (0, .ref (h 25))]) hC.1 hC.2.1 dX3_sum_101 rfl hl (by decide) rfl (fun ls hl => ?_)
                refine lv_iinc (v := nI (i63 + 1)) (lv' := [(4, .int (nI (i63 + 1))), (3, .int ((mOwnF σ i4 (i63)) + (σ.2 20 (4 * i4 + i63)))), (2, .int (nI (i4))), (1, .int (mSum σ (i4))), (0, .ref (h 25))]) hC.1 hC.2.1 dX3_sum_102 hl (k := 1) rfl (n_inc _) (by decide) rfl (fun ls hl => ?_)
                refine lv_goto (tgt := 63) hC.1 hC.2.1 dX3_sum_105 (by decide) ?_
                have hl : lv_has ls 5 [(4, .int (nI (i63 + 1))), (3, .int (mOwnF σ i4 (i63 + 1))), (2, .int (nI (i4))), (1, .int (mSum σ (i4))), (0, .ref (h 25))] := by
                  have e3 : mOwnF σ i4 (i63 + 1) = (mOwnF σ i4 (i63)) + (σ.2 20 (4 * i4 + i63)) := by
                    simp only [mOwnF, if_neg c_82, if_true, if_false]
                  rw [e3]
                  exact lv_sub hl [0, 1, 2, 3, 4] rfl
                exact ih63 (i63 + 1) (by omega) ls (lv_sub hl [0, 1, 2, 3, 4] rfl)
              · skip
                refine lv_iconst (v := 0) hC.1 hC.2.1 dX3_sum_85 (by decide) ?_
                refine lv_goto (tgt := 100) hC.1 hC.2.1 dX3_sum_86 (by decide) ?_
                refine lv_iadd hC.1 hC.2.1 dX3_sum_100 ?_
                refine lv_istore_n (lv' := [(3, .int ((mOwnF σ i4 (i63)) + (0))), (4, .int (nI (i63))), (2, .int (nI (i4))), (1, .int (mSum σ (i4))), (0, .ref (h 25))]) hC.1 hC.2.1 dX3_sum_101 rfl hl (by decide) rfl (fun ls hl => ?_)
                refine lv_iinc (v := nI (i63 + 1)) (lv' := [(4, .int (nI (i63 + 1))), (3, .int ((mOwnF σ i4 (i63)) + (0))), (2, .int (nI (i4))), (1, .int (mSum σ (i4))), (0, .ref (h 25))]) hC.1 hC.2.1 dX3_sum_102 hl (k := 1) rfl (n_inc _) (by decide) rfl (fun ls hl => ?_)
                refine lv_goto (tgt := 63) hC.1 hC.2.1 dX3_sum_105 (by decide) ?_
                have hl : lv_has ls 5 [(4, .int (nI (i63 + 1))), (3, .int (mOwnF σ i4 (i63 + 1))), (2, .int (nI (i4))), (1, .int (mSum σ (i4))), (0, .ref (h 25))] := by
                  have e3 : mOwnF σ i4 (i63 + 1) = (mOwnF σ i4 (i63)) + (0) := by
                    simp only [mOwnF, if_pos c_82, if_true, if_false]
                  rw [e3]
                  exact lv_sub hl [0, 1, 2, 3, 4] rfl
                exact ih63 (i63 + 1) (by omega) ls (lv_sub hl [0, 1, 2, 3, 4] rfl)
          exact lp63 4 0 (by omega) ls (lv_sub hl [0, 1, 2, 3, 4] rfl)
        | succ nn ih15 =>
          intro i15 hi15 ls hl
          have hlt15 : i15 < 3 := by omega
          refine lv_iload hC.1 hC.2.1 dX3_sum_15 (lv_at hl 0 rfl) ?_
          refine lv_iconst (v := 3) hC.1 hC.2.1 dX3_sum_17 (by decide) ?_
          refine n_ge (a := i15) (b := 3) hC (by omega) (by omega) (tgt := 60) dX3_sum_18 (by decide) (fun c_18 => absurd c_18 (by omega)) (fun c_18 => ?_)
          refine lv_iload_n hC.1 hC.2.1 dX3_sum_21 rfl (lv_at hl 1 rfl) ?_
          refine lv_aload_n hC.1 hC.2.1 dX3_sum_22 rfl (lv_at hl 4 rfl) ?_
          refine m_geta hC hE hG 19 (by decide) (fun _ => rfl) q775 rfl dX3_sum_23 ?_
          refine lv_iconst (v := 3) hC.1 hC.2.1 dX3_sum_26 (by decide) ?_
          refine lv_iload_n hC.1 hC.2.1 dX3_sum_27 rfl (lv_at hl 2 rfl) ?_
          refine n_mul (a := 3) (b := i4) (d := 3 * i4) hC (by first | rfl | omega) dX3_sum_28 ?_
          refine lv_iload hC.1 hC.2.1 dX3_sum_29 (lv_at hl 0 rfl) ?_
          refine n_add (a := 3 * i4) (b := i15) (d := 3 * i4 + i15) hC (by first | rfl | omega) dX3_sum_31 ?_
          refine m_ild hC hE hG 19 (by decide) rfl (N := 240) rfl (by decide) (j := 3 * i4 + i15) (v := σ.2 19 (3 * i4 + i15)) (by omega) (rfl) dX3_sum_32 ?_
          refine lv_iconst (v := -1) hC.1 hC.2.1 dX3_sum_33 (by decide) ?_
          refine lv_icmp_ne (tgt := 41) hC.1 hC.2.1 dX3_sum_34 (by decide) (fun c_34 => ?_) (fun c_34 => ?_)
          · skip
            refine lv_aload_n hC.1 hC.2.1 dX3_sum_41 rfl (lv_at hl 4 rfl) ?_
            refine m_geta hC hE hG 19 (by decide) (fun _ => rfl) q775 rfl dX3_sum_42 ?_
            refine lv_iconst (v := 3) hC.1 hC.2.1 dX3_sum_45 (by decide) ?_
            refine lv_iload_n hC.1 hC.2.1 dX3_sum_46 rfl (lv_at hl 2 rfl) ?_
            refine n_mul (a := 3) (b := i4) (d := 3 * i4) hC (by first | rfl | omega) dX3_sum_47 ?_
            refine lv_iload hC.1 hC.2.1 dX3_sum_48 (lv_at hl 0 rfl) ?_
            refine n_add (a := 3 * i4) (b := i15) (d := 3 * i4 + i15) hC (by first | rfl | omega) dX3_sum_50 ?_
            refine m_ild hC hE hG 19 (by decide) rfl (N := 240) rfl (by decide) (j := 3 * i4 + i15) (v := σ.2 19 (3 * i4 + i15)) (by omega) (rfl) dX3_sum_51 ?_
            refine lv_iadd hC.1 hC.2.1 dX3_sum_52 ?_
            refine lv_istore_n (lv' := [(3, .int ((mOwnK σ i4 (i15)) + (σ.2 19 (3 * i4 + i15)))), (4, .int (nI (i15))), (2, .int (nI (i4))), (1, .int (mSum σ (i4))), (0, .ref (h 25))]) hC.1 hC.2.1 dX3_sum_53 rfl hl (by decide) rfl (fun ls hl => ?_)
            refine lv_iinc (v := nI (i15 + 1)) (lv' := [(4, .int (nI (i15 + 1))), (3, .int ((mOwnK σ i4 (i15)) + (σ.2 19 (3 * i4 + i15)))), (2, .int (nI (i4))), (1, .int (mSum σ (i4))), (0, .ref (h 25))]) hC.1 hC.2.1 dX3_sum_54 hl (k := 1) rfl (n_inc _) (by decide) rfl (fun ls hl => ?_)
            refine lv_goto (tgt := 15) hC.1 hC.2.1 dX3_sum_57 (by decide) ?_
            have hl : lv_has ls 5 [(4, .int (nI (i15 + 1))), (3, .int (mOwnK σ i4 (i15 + 1))), (2, .int (nI (i4))), (1, .int (mSum σ (i4))), (0, .ref (h 25))] := by
              have e3 : mOwnK σ i4 (i15 + 1) = (mOwnK σ i4 (i15)) + (σ.2 19 (3 * i4 + i15)) := by
                simp only [mOwnK, if_neg c_34, if_true, if_false]
              rw [e3]
              exact lv_sub hl [0, 1, 2, 3, 4] rfl
            exact ih15 (i15 + 1) (by omega) ls (lv_sub hl [0, 1, 2, 3, 4] rfl)
          · skip
            refine lv_iconst (v := 0) hC.1 hC.2.1 dX3_sum_37 (by decide) ?_
            refine lv_goto (tgt := 52) hC.1 hC.2.1 dX3_sum_38 (by decide) ?_
            refine lv_iadd hC.1 hC.2.1 dX3_sum_52 ?_
            refine lv_istore_n (lv' := [(3, .int ((mOwnK σ i4 (i15)) + (0))), (4, .int (nI (i15))), (2, .int (nI (i4))), (1, .int (mSum σ (i4))), (0, .ref (h 25))]) hC.1 hC.2.1 dX3_sum_53 rfl hl (by decide) rfl (fun ls hl => ?_)
            refine lv_iinc (v := nI (i15 + 1)) (lv' := [(4, .int (nI (i15 + 1))), (3, .int ((mOwnK σ i4 (i15)) + (0))), (2, .int (nI (i4))), (1, .int (mSum σ (i4))), (0, .ref (h 25))]) hC.1 hC.2.1 dX3_sum_54 hl (k := 1) rfl (n_inc _) (by decide) rfl (fun ls hl => ?_)
            refine lv_goto (tgt := 15) hC.1 hC.2.1 dX3_sum_57 (by decide) ?_
            have hl : lv_has ls 5 [(4, .int (nI (i15 + 1))), (3, .int (mOwnK σ i4 (i15 + 1))), (2, .int (nI (i4))), (1, .int (mSum σ (i4))), (0, .ref (h 25))] := by
              have e3 : mOwnK σ i4 (i15 + 1) = (mOwnK σ i4 (i15)) + (0) := by
                simp only [mOwnK, if_pos c_34, if_true, if_false]
              rw [e3]
              exact lv_sub hl [0, 1, 2, 3, 4] rfl
            exact ih15 (i15 + 1) (by omega) ls (lv_sub hl [0, 1, 2, 3, 4] rfl)
      exact lp15 3 0 (by omega) ls (lv_sub hl [0, 1, 2, 3, 4] rfl)
  exact lp4 80 0 (by omega) ls (lv_sub hl [0, 1, 2] rfl)
set_option maxHeartbeats 4000000 in
theorem mt_digest (l : Launch) (K : GK) (A : Nat → Prop) (G0 : GM) (h : Nat → Nat) (σ : MS)  : Met l yX3_digest (ws_ yX3_digest cX3_digest 1 (some .int)) ({ frames := 1, cells := 0, slots := 0, locals := 24 }) (va_Pc ([.ref (h 25)]) (gW K A (mput K.2.1 h (σ) G0))) (va_Qi (fun (r9 : Int32) (u9 : MS) => (r9, u9) = (mSum (sS σ 24 0) 80, sS σ 24 0)) (fun u t => gB K A (mput K.2.1 h u G0) t) A) 0 0 (A) := by
  refine g_ofW (cc := cX3_digest) (by decide) (own := RX3) rfl (Nat.le_of_ble_eq_true rfl) ?_
  intro p e s m below meth c hC hr hlocks hnm hE hG ls hl
  have hl : lv_has ls 1 [(0, .ref (h 25))] := hl
  refine lv_aload_n hC.1 hC.2.1 dX3_digest_0 rfl (lv_at hl 0 rfl) ?_
  refine lv_iconst (v := 0) hC.1 hC.2.1 dX3_digest_1 (by decide) ?_
  refine m_puts hC hE hG 24 (by decide) q780 dX3_digest_2 (fun H locs hG => ?_)
  refine lv_aload_n hC.1 hC.2.1 dX3_digest_5 rfl (lv_at hl 0 rfl) ?_
  refine g_roV (As := []) (rest := []) hC hE hG (mt_sum l K A G0 h (sS (σ) 24 ((0))) ) (cwV 0 hC.2.2.2.2 (lw_V q967 q969 qs19 q26 q970) rfl rfl rfl (by decide +kernel) ⟨Nat.le_of_ble_eq_true rfl, Nat.le_of_ble_eq_true rfl⟩) (mput_o _ _ _ _) rfl rfl hl.1 rfl (Nat.le_of_ble_eq_true rfl) dX3_digest_6 ⟨Nat.le_of_ble_eq_true rfl, Nat.le_of_ble_eq_true rfl⟩ (fun r hr9 => ?_)
  subst hr9
  exact g_iret hC hG hr (rfl) (sS (σ) 24 ((0))) rfl (by rfl) hlocks dX3_digest_9
set_option maxHeartbeats 4000000 in
theorem mt_thrown (l : Launch) (K : GK) (A : Nat → Prop) (G0 : GM) (h : Nat → Nat) (σ : MS)  : Met l yX3_thrown (ws_ yX3_thrown cX3_thrown 1 (some .int)) ({ frames := 0, cells := 0, slots := 0, locals := 0 }) (va_Pc ([.ref (h 25)]) (gW K A (mput K.2.1 h (σ) G0))) (vp_Si (fun r9 => r9 = σ.1 24)) 0 0 (fun _ => False) := by
  refine g_ofW (cc := cX3_thrown) (by decide) (own := RX3) rfl (Nat.le_of_ble_eq_true rfl) ?_
  intro p e s m below meth c hC hr hlocks hnm hE hG ls hl
  have hl : lv_has ls 1 [(0, .ref (h 25))] := hl
  refine lv_aload_n hC.1 hC.2.1 dX3_thrown_0 rfl (lv_at hl 0 rfl) ?_
  refine m_gets hC hE hG 24 (by decide) (fun _ => rfl) (v := σ.1 24) (rfl) q780 rfl dX3_thrown_1 ?_
  exact g_roret hC hr (rfl) (by rfl) hlocks dX3_thrown_4
