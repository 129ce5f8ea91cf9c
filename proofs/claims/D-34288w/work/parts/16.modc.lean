/-! the reference's methods, walked: part c (written by tools/mkmodel.py) -/
set_option maxRecDepth 100000
set_option maxHeartbeats 4000000 in
theorem mt_load (l : Launch) (K : GK) (A : Nat → Prop) (G0 : GM) (h : Nat → Nat) (σ : MS) (t : Int32) (n b d : Nat) (hn7 : σ.1 7 = nI n) (hn2 : n ≤ 80) (hb5 : σ.1 5 = nI b) (hb2 : b ≤ 10) (hd : d < 180) (hdm : σ.1 14 = nI d) (hw : wF σ) : Met l yX3_load (ws_ yX3_load cX3_load 4 (some .int)) ({ frames := 4, cells := 0, slots := 0, locals := 94 }) (va_Pc ([.ref (h 25), .int (t)]) (gW K A (mput K.2.1 h (σ) G0))) (va_Qi (fun (r9 : Int32) (u9 : MS) => (r9, u9) = mLoad σ t n b d) (fun u t => gB K A (mput K.2.1 h u G0) t) A) 0 0 (A) := by
  refine g_ofW (cc := cX3_load) (by decide) (own := RX3) rfl (Nat.le_of_ble_eq_true rfl) ?_
  intro p e s m below meth c hC hr hlocks hnm hE hG ls hl
  have hl : lv_has ls 4 [(0, .ref (h 25)), (1, .int (t))] := hl
  refine lv_aload_n hC.1 hC.2.1 dX3_load_0 rfl (lv_at hl 0 rfl) ?_
  refine lv_iload_n hC.1 hC.2.1 dX3_load_1 rfl (lv_at hl 1 rfl) ?_
  refine lv_iconst (v := 0) hC.1 hC.2.1 dX3_load_2 (by decide) ?_
  refine lv_iconst (v := 4) hC.1 hC.2.1 dX3_load_3 (by decide) ?_
  refine g_sP (As := [.int (t), .int ((0)), .int ((4))]) (rest := [.ref (h 25)]) hC (mt_in l (t) ((0)) ((4))) (va_cwS 3 hC.2.2.2.2 (lw_S q840 q841 q26 q842) rfl rfl rfl (by decide +kernel) ⟨Nat.le_of_ble_eq_true rfl, Nat.le_of_ble_eq_true rfl⟩) rfl hl.1 rfl (Nat.le_of_ble_eq_true rfl) dX3_load_4 ⟨Nat.le_of_ble_eq_true rfl, Nat.le_of_ble_eq_true rfl⟩ (fun r hr9 => ?_)
  subst hr9
  refine b_ne (tgt := 14) hC dX3_load_7 (by decide) (fun c_7 => ?_) (fun c_7 => ?_)
  · skip
    refine lv_aload_n hC.1 hC.2.1 dX3_load_14 rfl (lv_at hl 0 rfl) ?_
    refine m_gets hC hE hG 5 (by decide) (fun _ => rfl) (v := σ.1 5) (rfl) q761 rfl dX3_load_15 ?_
    refine lv_if_eq (tgt := 30) hC.1 hC.2.1 dX3_load_18 (by decide) (fun c_18 => ?_) (fun c_18 => ?_)
    · skip
      refine lv_iconst (v := 2) hC.1 hC.2.1 dX3_load_30 (by decide) ?_
      refine lv_goto (tgt := 35) hC.1 hC.2.1 dX3_load_31 (by decide) ?_
      refine m_puts hC hE hG 24 (by decide) q780 dX3_load_35 (fun H locs hG => ?_)
      refine lv_aload_n hC.1 hC.2.1 dX3_load_38 rfl (lv_at hl 0 rfl) ?_
      refine m_gets hC hE hG 24 (by decide) (fun _ => rfl) (v := (2)) (rfl) q780 rfl dX3_load_39 ?_
      refine lv_if_le (tgt := 47) hC.1 hC.2.1 dX3_load_42 (by decide) (fun c_42 => absurd c_42 (by decide)) (fun c_42 => ?_)
      refine lv_iconst (v := 0) hC.1 hC.2.1 dX3_load_45 (by decide) ?_
      exact g_iret hC hG hr (rfl) (sS (σ) 24 ((2))) rfl (by simp only [mLoad, mPut, if_pos c_7, if_pos c_18, if_true, if_false]) hlocks dX3_load_46
    · skip
      refine lv_aload_n hC.1 hC.2.1 dX3_load_21 rfl (lv_at hl 0 rfl) ?_
      refine m_gets hC hE hG 7 (by decide) (fun _ => rfl) (v := σ.1 7) (rfl) q763 rfl dX3_load_22 ?_
      refine lv_bipush (v := 80) hC.1 hC.2.1 dX3_load_25 (by decide) ?_
      refine lv_icmp_ne (tgt := 34) hC.1 hC.2.1 dX3_load_27 (by decide) (fun c_27 => ?_) (fun c_27 => ?_)
      · skip
        refine lv_iconst (v := 0) hC.1 hC.2.1 dX3_load_34 (by decide) ?_
        refine m_puts hC hE hG 24 (by decide) q780 dX3_load_35 (fun H locs hG => ?_)
        refine lv_aload_n hC.1 hC.2.1 dX3_load_38 rfl (lv_at hl 0 rfl) ?_
        refine m_gets hC hE hG 24 (by decide) (fun _ => rfl) (v := (0)) (rfl) q780 rfl dX3_load_39 ?_
        refine lv_if_le (tgt := 47) hC.1 hC.2.1 dX3_load_42 (by decide) (fun c_42 => ?_) (fun c_42 => absurd c_42 (by decide))
        have hn3 : n < 80 := by
          rcases Nat.lt_or_ge n 80 with q | q
          · exact q
          · exact absurd (by rw [hn7, show n = 80 by omega]; rfl) c_27
        have hb3 : 1 ≤ b := by
          rcases Nat.eq_zero_or_pos b with q | q
          · exact absurd (by rw [hb5, q]; rfl) c_18
          · exact q
        have hwn : wF (mNote (mPut σ t n b) d 0 (nI n) 0) := wF_note (wF_put hw (inR_in c_7 (by decide) rfl) hb2) (vp_in_nI hn3 (by decide)) (show vp_in (nI 0) 80 from vp_in_nI (by decide) (by decide)) (fun q => absurd rfl q)
        refine lv_aload_n hC.1 hC.2.1 dX3_load_47 rfl (lv_at hl 0 rfl) ?_
        refine m_gets hC hE hG 7 (by decide) (fun _ => rfl) (v := nI (n)) (hn7) q763 rfl dX3_load_48 ?_
        refine lv_istore_n (lv' := [(2, .int (nI (n))), (0, .ref (h 25)), (1, .int (t))]) hC.1 hC.2.1 dX3_load_51 rfl hl (by decide) rfl (fun ls hl => ?_)
        refine lv_aload_n hC.1 hC.2.1 dX3_load_52 rfl (lv_at hl 1 rfl) ?_
        refine lv_dup hC.1 hC.2.1 dX3_load_53 rfl ?_
        refine m_gets hC hE hG 7 (by decide) (fun _ => rfl) (v := nI (n)) (hn7) q763 rfl dX3_load_54 ?_
        refine lv_iconst (v := 1) hC.1 hC.2.1 dX3_load_57 (by decide) ?_
        refine n_add (a := n) (b := 1) (d := n + 1) hC (by first | rfl | omega) dX3_load_58 ?_
        refine m_puts hC hE hG 7 (by decide) q763 dX3_load_59 (fun H locs hG => ?_)
        refine lv_aload_n hC.1 hC.2.1 dX3_load_62 rfl (lv_at hl 1 rfl) ?_
        refine m_geta hC hE hG 8 (by decide) (fun _ => rfl) q764 rfl dX3_load_63 ?_
        refine lv_iload_n hC.1 hC.2.1 dX3_load_66 rfl (lv_at hl 0 rfl) ?_
        refine lv_aload_n hC.1 hC.2.1 dX3_load_67 rfl (lv_at hl 1 rfl) ?_
        refine m_gets hC hE hG 5 (by decide) (fun _ => rfl) (v := nI (b)) (hb5) q761 rfl dX3_load_68 ?_
        refine lv_iconst (v := 1) hC.1 hC.2.1 dX3_load_71 (by decide) ?_
        refine n_sub (a := b) (b := 1) (d := b - 1) hC (by omega) (by omega) dX3_load_72 ?_
        refine m_ist hC hE hG 8 (by decide) rfl (N := 80) rfl (by decide) (j := n) (by omega) dX3_load_73 (fun H locs hG => ?_)
        refine lv_aload_n hC.1 hC.2.1 dX3_load_74 rfl (lv_at hl 1 rfl) ?_
        refine m_geta hC hE hG 9 (by decide) (fun _ => rfl) q765 rfl dX3_load_75 ?_
        refine lv_iload_n hC.1 hC.2.1 dX3_load_78 rfl (lv_at hl 0 rfl) ?_
        refine lv_iload_n hC.1 hC.2.1 dX3_load_79 rfl (lv_at hl 2 rfl) ?_
        refine m_ist hC hE hG 9 (by decide) rfl (N := 80) rfl (by decide) (j := n) (by omega) dX3_load_80 (fun H locs hG => ?_)
        refine lv_iconst (v := 0) hC.1 hC.2.1 dX3_load_81 (by decide) ?_
        refine lv_istore_n (lv' := [(3, .int ((0))), (2, .int (nI (n))), (0, .ref (h 25)), (1, .int (t))]) hC.1 hC.2.1 dX3_load_82 rfl hl (by decide) rfl (fun ls hl => ?_)
        have lp83 : ∀ (nn i83 : Nat), i83 + nn = 3 → ∀ (H : Heap) (locs : List Loc), gG K A s.heap (mput K.2.1 h (mP1 n (i83) (sU (sU (sS (sS σ 24 0) 7 (nI (n + 1))) 8 n (nI (b - 1))) 9 n t)) G0) H locs → ∀ ls : Array Slot, lv_has ls 4 [(3, .int (nI (i83))), (2, .int (nI (n))), (0, .ref (h 25)), (1, .int (t))] → W p l e ({ frames := 4, cells := 0, slots := 0, locals := 94 }) s m ([.ref (h 25), .int (t)] : List Value).toArray below meth c H locs 0 0 (MQ below (va_Qi (fun (r9 : Int32) (u9 : MS) => (r9, u9) = mLoad σ t n b d) (fun u t => gB K A (mput K.2.1 h u G0) t) A) ([.ref (h 25), .int (t)] : List Value).toArray s 0 0 (A)) (F0 m 83 ls []) := by
          intro nn
          induction nn with
          | zero =>
            intro i83 hi83 H locs hG ls hl
            obtain rfl : 3 = i83 := by omega
            refine lv_iload_n hC.1 hC.2.1 dX3_load_83 rfl (lv_at hl 0 rfl) ?_
            refine lv_iconst (v := 3) hC.1 hC.2.1 dX3_load_84 (by decide) ?_
            refine n_ge (a := 3) (b := 3) hC (by omega) (by omega) (tgt := 110) dX3_load_85 (by decide) (fun c_85 => ?_) (fun c_85 => absurd c_85 (by omega))
            refine lv_iconst (v := 0) hC.1 hC.2.1 dX3_load_110 (by decide) ?_
            refine lv_istore_n (lv' := [(3, .int ((0))), (2, .int (nI (n))), (0, .ref (h 25)), (1, .int (t))]) hC.1 hC.2.1 dX3_load_111 rfl hl (by decide) rfl (fun ls hl => ?_)
            have lp112 : ∀ (nn i112 : Nat), i112 + nn = 4 → ∀ (H : Heap) (locs : List Loc), gG K A s.heap (mput K.2.1 h (mP2 n (i112) (mP1 n 3 (sU (sU (sS (sS σ 24 0) 7 (nI (n + 1))) 8 n (nI (b - 1))) 9 n t))) G0) H locs → ∀ ls : Array Slot, lv_has ls 4 [(3, .int (nI (i112))), (2, .int (nI (n))), (0, .ref (h 25)), (1, .int (t))] → W p l e ({ frames := 4, cells := 0, slots := 0, locals := 94 }) s m ([.ref (h 25), .int (t)] : List Value).toArray below meth c H locs 0 0 (MQ below (va_Qi (fun (r9 : Int32) (u9 : MS) => (r9, u9) = mLoad σ t n b d) (fun u t => gB K A (mput K.2.1 h u G0) t) A) ([.ref (h 25), .int (t)] : List Value).toArray s 0 0 (A)) (F0 m 112 ls []) := by
              intro nn
              induction nn with
              | zero =>
                intro i112 hi112 H locs hG ls hl
                obtain rfl : 4 = i112 := by omega
                refine lv_iload_n hC.1 hC.2.1 dX3_load_112 rfl (lv_at hl 0 rfl) ?_
                refine lv_iconst (v := 4) hC.1 hC.2.1 dX3_load_113 (by decide) ?_
                refine n_ge (a := 4) (b := 4) hC (by omega) (by omega) (tgt := 139) dX3_load_114 (by decide) (fun c_114 => ?_) (fun c_114 => absurd c_114 (by omega))
                refine lv_aload_n hC.1 hC.2.1 dX3_load_139 rfl (lv_at hl 2 rfl) ?_
                refine g_cVv (As := []) (rest := []) (S := MS) hC hE hG (mt_emptyDraft l K A G0 h (mP2 n (4) (mP1 n 3 (sU (sU (sS (sS σ 24 0) 7 (nI (n + 1))) 8 n (nI (b - 1))) 9 n t))) ) (cwV 0 hC.2.2.2.2 (lw_V q752 q754 qs8 q26 q755) rfl rfl rfl (by decide +kernel) ⟨Nat.le_of_ble_eq_true rfl, Nat.le_of_ble_eq_true rfl⟩) (mput_o _ _ _ _) rfl rfl hl.1 rfl (Nat.le_of_ble_eq_true rfl) dX3_load_140 ⟨Nat.le_of_ble_eq_true rfl, Nat.le_of_ble_eq_true rfl⟩ (fun u H locs hu9 hG => ?_)
                subst hu9
                refine lv_aload_n hC.1 hC.2.1 dX3_load_143 rfl (lv_at hl 2 rfl) ?_
                refine lv_iconst (v := 0) hC.1 hC.2.1 dX3_load_144 (by decide) ?_
                refine lv_iload_n hC.1 hC.2.1 dX3_load_145 rfl (lv_at hl 1 rfl) ?_
                refine lv_iconst (v := 0) hC.1 hC.2.1 dX3_load_146 (by decide) ?_
                refine g_cVv (As := [.int ((0)), .int (nI (n)), .int ((0))]) (rest := []) (S := MS) hC hE hG (mt_add l K A G0 h (mDraft (mP2 n (4) (mP1 n 3 (sU (sU (sS (sS σ 24 0) 7 (nI (n + 1))) 8 n (nI (b - 1))) 9 n t)))) 0 (nI n) 0 d hd ((mPut_14 σ t n b).trans hdm) hwn) (cwV 3 hC.2.2.2.2 (lw_V q867 q869 qs9 q26 q870) rfl rfl rfl (by decide +kernel) ⟨Nat.le_of_ble_eq_true rfl, Nat.le_of_ble_eq_true rfl⟩) (mput_o _ _ _ _) rfl rfl hl.1 rfl (Nat.le_of_ble_eq_true rfl) dX3_load_147 ⟨Nat.le_of_ble_eq_true rfl, Nat.le_of_ble_eq_true rfl⟩ (fun u H locs hu9 hG => ?_)
                subst hu9
                refine lv_aload_n hC.1 hC.2.1 dX3_load_150 rfl (lv_at hl 2 rfl) ?_
                refine m_geta hC hE hG 12 (by decide) (fun _ => rfl) q768 rfl dX3_load_151 ?_
                refine lv_iload_n hC.1 hC.2.1 dX3_load_154 rfl (lv_at hl 1 rfl) ?_
                refine m_ild hC hE hG 12 (by decide) rfl (N := 80) rfl (by decide) (j := n) (v := (mAdd (mDraft (mP2 n (4) (mP1 n 3 (sU (sU (sS (sS σ 24 0) 7 (nI (n + 1))) 8 n (nI (b - 1))) 9 n t)))) d 0 (nI n) 0).2 12 n) (by omega) (rfl) dX3_load_155 ?_
                exact g_iret hC hG hr (rfl) (mAdd (mDraft (mP2 n (4) (mP1 n 3 (sU (sU (sS (sS σ 24 0) 7 (nI (n + 1))) 8 n (nI (b - 1))) 9 n t)))) d 0 (nI n) 0) rfl (by simp only [mLoad, mPut, if_pos c_7, if_neg c_18, if_neg c_27, if_true, if_false]) hlocks dX3_load_156
              | succ nn ih112 =>
                intro i112 hi112 H locs hG ls hl
                have hlt112 : i112 < 4 := by omega
                refine lv_iload_n hC.1 hC.2.1 dX3_load_112 rfl (lv_at hl 0 rfl) ?_
                refine lv_iconst (v := 4) hC.1 hC.2.1 dX3_load_113 (by decide) ?_
                refine n_ge (a := i112) (b := 4) hC (by omega) (by omega) (tgt := 139) dX3_load_114 (by decide) (fun c_114 => absurd c_114 (by omega)) (fun c_114 => ?_)
                refine lv_aload_n hC.1 hC.2.1 dX3_load_117 rfl (lv_at hl 2 rfl) ?_
                refine m_geta hC hE hG 11 (by decide) (fun _ => rfl) q767 rfl dX3_load_118 ?_
                refine lv_iconst (v := 4) hC.1 hC.2.1 dX3_load_121 (by decide) ?_
                refine lv_iload_n hC.1 hC.2.1 dX3_load_122 rfl (lv_at hl 1 rfl) ?_
                refine n_mul (a := 4) (b := n) (d := 4 * n) hC (by first | rfl | omega) dX3_load_123 ?_
                refine lv_iload_n hC.1 hC.2.1 dX3_load_124 rfl (lv_at hl 0 rfl) ?_
                refine n_add (a := 4 * n) (b := i112) (d := 4 * n + i112) hC (by first | rfl | omega) dX3_load_125 ?_
                refine lv_aload_n hC.1 hC.2.1 dX3_load_126 rfl (lv_at hl 2 rfl) ?_
                refine m_geta hC hE hG 4 (by decide) (fun _ => rfl) q760 rfl dX3_load_127 ?_
                refine lv_iload_n hC.1 hC.2.1 dX3_load_130 rfl (lv_at hl 0 rfl) ?_
                refine m_ild hC hE hG 4 (by decide) rfl (N := 4) rfl (by decide) (j := i112) (v := (mP2 n (i112) (mP1 n 3 (sU (sU (sS (sS σ 24 0) 7 (nI (n + 1))) 8 n (nI (b - 1))) 9 n t))).2 4 i112) (by omega) (rfl) dX3_load_131 ?_
                refine m_ist hC hE hG 11 (by decide) rfl (N := 320) rfl (by decide) (j := 4 * n + i112) (by omega) dX3_load_132 (fun H locs hG => ?_)
                refine lv_iinc (v := nI (i112 + 1)) (lv' := [(3, .int (nI (i112 + 1))), (2, .int (nI (n))), (0, .ref (h 25)), (1, .int (t))]) hC.1 hC.2.1 dX3_load_133 hl (k := 0) rfl (n_inc _) (by decide) rfl (fun ls hl => ?_)
                refine lv_goto (tgt := 112) hC.1 hC.2.1 dX3_load_136 (by decide) ?_
                have hσ : sU (mP2 n (i112) (mP1 n 3 (sU (sU (sS (sS σ 24 0) 7 (nI (n + 1))) 8 n (nI (b - 1))) 9 n t))) 11 (4 * n + i112) ((mP2 n (i112) (mP1 n 3 (sU (sU (sS (sS σ 24 0) 7 (nI (n + 1))) 8 n (nI (b - 1))) 9 n t))).2 4 i112) = mP2 n (i112 + 1) (mP1 n 3 (sU (sU (sS (sS σ 24 0) 7 (nI (n + 1))) 8 n (nI (b - 1))) 9 n t)) := by
                  simp only [mP2, if_pos c_7, if_neg c_18, if_neg c_27, if_true, if_false]
                exact ih112 (i112 + 1) (by omega) _ _ (hG.eq (by rw [hσ])) ls (lv_sub hl [0, 1, 2, 3] rfl)
            exact lp112 4 0 (by omega) _ _ hG ls (lv_sub hl [0, 1, 2, 3] rfl)
          | succ nn ih83 =>
            intro i83 hi83 H locs hG ls hl
            have hlt83 : i83 < 3 := by omega
            refine lv_iload_n hC.1 hC.2.1 dX3_load_83 rfl (lv_at hl 0 rfl) ?_
            refine lv_iconst (v := 3) hC.1 hC.2.1 dX3_load_84 (by decide) ?_
            refine n_ge (a := i83) (b := 3) hC (by omega) (by omega) (tgt := 110) dX3_load_85 (by decide) (fun c_85 => absurd c_85 (by omega)) (fun c_85 => ?_)
            refine lv_aload_n hC.1 hC.2.1 dX3_load_88 rfl (lv_at hl 2 rfl) ?_
            refine m_geta hC hE hG 10 (by decide) (fun _ => rfl) q766 rfl dX3_load_89 ?_
            refine lv_iconst (v := 3) hC.1 hC.2.1 dX3_load_92 (by decide) ?_
            refine lv_iload_n hC.1 hC.2.1 dX3_load_93 rfl (lv_at hl 1 rfl) ?_
            refine n_mul (a := 3) (b := n) (d := 3 * n) hC (by first | rfl | omega) dX3_load_94 ?_
            refine lv_iload_n hC.1 hC.2.1 dX3_load_95 rfl (lv_at hl 0 rfl) ?_
            refine n_add (a := 3 * n) (b := i83) (d := 3 * n + i83) hC (by first | rfl | omega) dX3_load_96 ?_
            refine lv_aload_n hC.1 hC.2.1 dX3_load_97 rfl (lv_at hl 2 rfl) ?_
            refine m_geta hC hE hG 3 (by decide) (fun _ => rfl) q759 rfl dX3_load_98 ?_
            refine lv_iload_n hC.1 hC.2.1 dX3_load_101 rfl (lv_at hl 0 rfl) ?_
            refine m_ild hC hE hG 3 (by decide) rfl (N := 3) rfl (by decide) (j := i83) (v := (mP1 n (i83) (sU (sU (sS (sS σ 24 0) 7 (nI (n + 1))) 8 n (nI (b - 1))) 9 n t)).2 3 i83) (by omega) (rfl) dX3_load_102 ?_
            refine m_ist hC hE hG 10 (by decide) rfl (N := 240) rfl (by decide) (j := 3 * n + i83) (by omega) dX3_load_103 (fun H locs hG => ?_)
            refine lv_iinc (v := nI (i83 + 1)) (lv' := [(3, .int (nI (i83 + 1))), (2, .int (nI (n))), (0, .ref (h 25)), (1, .int (t))]) hC.1 hC.2.1 dX3_load_104 hl (k := 0) rfl (n_inc _) (by decide) rfl (fun ls hl => ?_)
            refine lv_goto (tgt := 83) hC.1 hC.2.1 dX3_load_107 (by decide) ?_
            have hσ : sU (mP1 n (i83) (sU (sU (sS (sS σ 24 0) 7 (nI (n + 1))) 8 n (nI (b - 1))) 9 n t)) 10 (3 * n + i83) ((mP1 n (i83) (sU (sU (sS (sS σ 24 0) 7 (nI (n + 1))) 8 n (nI (b - 1))) 9 n t)).2 3 i83) = mP1 n (i83 + 1) (sU (sU (sS (sS σ 24 0) 7 (nI (n + 1))) 8 n (nI (b - 1))) 9 n t) := by
              simp only [mP1, if_pos c_7, if_neg c_18, if_neg c_27, if_true, if_false]
            exact ih83 (i83 + 1) (by omega) _ _ (hG.eq (by rw [hσ])) ls (lv_sub hl [0, 1, 2, 3] rfl)
        exact lp83 3 0 (by omega) _ _ hG ls (lv_sub hl [0, 1, 2, 3] rfl)
      · skip
        refine lv_iconst (v := 2) hC.1 hC.2.1 dX3_load_30 (by decide) ?_
        refine lv_goto (tgt := 35) hC.1 hC.2.1 dX3_load_31 (by decide) ?_
        refine m_puts hC hE hG 24 (by decide) q780 dX3_load_35 (fun H locs hG => ?_)
        refine lv_aload_n hC.1 hC.2.1 dX3_load_38 rfl (lv_at hl 0 rfl) ?_
        refine m_gets hC hE hG 24 (by decide) (fun _ => rfl) (v := (2)) (rfl) q780 rfl dX3_load_39 ?_
        refine lv_if_le (tgt := 47) hC.1 hC.2.1 dX3_load_42 (by decide) (fun c_42 => absurd c_42 (by decide)) (fun c_42 => ?_)
        refine lv_iconst (v := 0) hC.1 hC.2.1 dX3_load_45 (by decide) ?_
        exact g_iret hC hG hr (rfl) (sS (σ) 24 ((2))) rfl (by simp only [mLoad, mPut, if_pos c_7, if_neg c_18, if_pos c_27, if_true, if_false]) hlocks dX3_load_46
  · skip
    refine lv_iconst (v := 1) hC.1 hC.2.1 dX3_load_10 (by decide) ?_
    refine lv_goto (tgt := 35) hC.1 hC.2.1 dX3_load_11 (by decide) ?_
    refine m_puts hC hE hG 24 (by decide) q780 dX3_load_35 (fun H locs hG => ?_)
    refine lv_aload_n hC.1 hC.2.1 dX3_load_38 rfl (lv_at hl 0 rfl) ?_
    refine m_gets hC hE hG 24 (by decide) (fun _ => rfl) (v := (1)) (rfl) q780 rfl dX3_load_39 ?_
    refine lv_if_le (tgt := 47) hC.1 hC.2.1 dX3_load_42 (by decide) (fun c_42 => absurd c_42 (by decide)) (fun c_42 => ?_)
    refine lv_iconst (v := 0) hC.1 hC.2.1 dX3_load_45 (by decide) ?_
    exact g_iret hC hG hr (rfl) (sS (σ) 24 ((1))) rfl (by simp only [mLoad, mPut, if_neg c_7, if_true, if_false]) hlocks dX3_load_46
set_option maxHeartbeats 4000000 in
theorem mt_protect (l : Launch) (K : GK) (A : Nat → Prop) (G0 : GM) (h : Nat → Nat) (σ : MS) (r f z : Int32) (d : Nat) (hd : d < 180) (hdm : σ.1 14 = nI d) (hw : wF σ) (hk : ∀ j, σ.2 22 j = 0 ∨ σ.2 22 j = 1) : Met l yX3_protect (ws_ yX3_protect cX3_protect 5 (some .boolean)) ({ frames := 4, cells := 0, slots := 0, locals := 94 }) (va_Pc ([.ref (h 25), .int (r), .int (f), .int (z)]) (gW K A (mput K.2.1 h (σ) G0))) (va_Qi (fun (r9 : Int32) (u9 : MS) => (r9, u9) = mProtect σ r f z d) (fun u t => gB K A (mput K.2.1 h u G0) t) A) 0 0 (A) := by
  refine g_ofW (cc := cX3_protect) (by decide) (own := RX3) rfl (Nat.le_of_ble_eq_true rfl) ?_
  intro p e s m below meth c hC hr hlocks hnm hE hG ls hl
  have hl : lv_has ls 5 [(0, .ref (h 25)), (1, .int (r)), (2, .int (f)), (3, .int (z))] := hl
  refine lv_aload_n hC.1 hC.2.1 dX3_protect_0 rfl (lv_at hl 0 rfl) ?_
  refine lv_aload_n hC.1 hC.2.1 dX3_protect_1 rfl (lv_at hl 0 rfl) ?_
  refine lv_iload_n hC.1 hC.2.1 dX3_protect_2 rfl (lv_at hl 1 rfl) ?_
  refine g_roV (As := [.int (r)]) (rest := [.ref (h 25)]) hC hE hG (mt_isRecord l K A G0 h (σ) (r)) (cwV 1 hC.2.2.2.2 (lw_V q899 q901 qs16 q26 q902) rfl rfl rfl (by decide +kernel) ⟨Nat.le_of_ble_eq_true rfl, Nat.le_of_ble_eq_true rfl⟩) (mput_o _ _ _ _) rfl rfl hl.1 rfl (Nat.le_of_ble_eq_true rfl) dX3_protect_3 ⟨Nat.le_of_ble_eq_true rfl, Nat.le_of_ble_eq_true rfl⟩ (fun r hr9 => ?_)
  subst hr9
  refine b_eq (tgt := 18) hC dX3_protect_6 (by decide) (fun c_6 => ?_) (fun c_6 => ?_)
  · skip
    refine lv_iconst (v := 1) hC.1 hC.2.1 dX3_protect_18 (by decide) ?_
    refine lv_goto (tgt := 36) hC.1 hC.2.1 dX3_protect_19 (by decide) ?_
    refine m_puts hC hE hG 24 (by decide) q780 dX3_protect_36 (fun H locs hG => ?_)
    refine lv_aload_n hC.1 hC.2.1 dX3_protect_39 rfl (lv_at hl 0 rfl) ?_
    refine m_gets hC hE hG 24 (by decide) (fun _ => rfl) (v := (1)) (rfl) q780 rfl dX3_protect_40 ?_
    refine lv_if_le (tgt := 48) hC.1 hC.2.1 dX3_protect_43 (by decide) (fun c_43 => absurd c_43 (by decide)) (fun c_43 => ?_)
    refine lv_iconst (v := 0) hC.1 hC.2.1 dX3_protect_46 (by decide) ?_
    exact g_iret hC hG hr (rfl) (sS (σ) 24 ((1))) rfl (by simp only [mProtect, if_neg c_6]) hlocks dX3_protect_47
  · skip
    refine lv_iload_n hC.1 hC.2.1 dX3_protect_9 rfl (lv_at hl 2 rfl) ?_
    refine lv_iconst (v := 0) hC.1 hC.2.1 dX3_protect_10 (by decide) ?_
    refine lv_iconst (v := 3) hC.1 hC.2.1 dX3_protect_11 (by decide) ?_
    refine g_sP (As := [.int (f), .int ((0)), .int ((3))]) (rest := [.ref (h 25)]) hC (mt_in l (f) ((0)) ((3))) (va_cwS 3 hC.2.2.2.2 (lw_S q840 q841 q26 q842) rfl rfl rfl (by decide +kernel) ⟨Nat.le_of_ble_eq_true rfl, Nat.le_of_ble_eq_true rfl⟩) rfl hl.1 rfl (Nat.le_of_ble_eq_true rfl) dX3_protect_12 ⟨Nat.le_of_ble_eq_true rfl, Nat.le_of_ble_eq_true rfl⟩ (fun r hr9 => ?_)
    subst hr9
    refine b_ne (tgt := 22) hC dX3_protect_15 (by decide) (fun c_15 => ?_) (fun c_15 => ?_)
    · skip
      refine lv_aload_n hC.1 hC.2.1 dX3_protect_22 rfl (lv_at hl 0 rfl) ?_
      refine m_gets hC hE hG 13 (by decide) (fun _ => rfl) (v := σ.1 13) (rfl) q769 rfl dX3_protect_23 ?_
      refine lv_bipush (v := 100) hC.1 hC.2.1 dX3_protect_26 (by decide) ?_
      refine lv_icmp_ne (tgt := 35) hC.1 hC.2.1 dX3_protect_28 (by decide) (fun c_28 => ?_) (fun c_28 => ?_)
      · skip
        refine lv_iconst (v := 0) hC.1 hC.2.1 dX3_protect_35 (by decide) ?_
        refine m_puts hC hE hG 24 (by decide) q780 dX3_protect_36 (fun H locs hG => ?_)
        refine lv_aload_n hC.1 hC.2.1 dX3_protect_39 rfl (lv_at hl 0 rfl) ?_
        refine m_gets hC hE hG 24 (by decide) (fun _ => rfl) (v := (0)) (rfl) q780 rfl dX3_protect_40 ?_
        refine lv_if_le (tgt := 48) hC.1 hC.2.1 dX3_protect_43 (by decide) (fun c_43 => ?_) (fun c_43 => absurd c_43 (by decide))
        obtain ⟨rj, hrj, rfl⟩ : ∃ z, z < 80 ∧ r = nI z := ⟨tN r, (vp_nat (inR_in c_6.1 (by decide) rfl) (by decide)).2, (vp_nat (inR_in c_6.1 (by decide) rfl) (by decide)).1⟩
        have erj : tN (nI rj) = rj := tN_nI (by omega)
        obtain ⟨fj, hfj, rfl⟩ : ∃ z, z < 4 ∧ f = nI z := ⟨tN f, (vp_nat (inR_in c_15 (by decide) rfl) (by decide)).2, (vp_nat (inR_in c_15 (by decide) rfl) (by decide)).1⟩
        have efj : tN (nI fj) = fj := tN_nI (by omega)
        refine lv_aload_n hC.1 hC.2.1 dX3_protect_48 rfl (lv_at hl 0 rfl) ?_
        refine m_geta hC hE hG 22 (by decide) (fun _ => rfl) q778 rfl dX3_protect_49 ?_
        refine lv_iconst (v := 4) hC.1 hC.2.1 dX3_protect_52 (by decide) ?_
        refine lv_iload_n hC.1 hC.2.1 dX3_protect_53 rfl (lv_at hl 1 rfl) ?_
        refine n_mul (a := 4) (b := rj) (d := 4 * rj) hC (by first | rfl | omega) dX3_protect_54 ?_
        refine lv_iload_n hC.1 hC.2.1 dX3_protect_55 rfl (lv_at hl 2 rfl) ?_
        refine n_add (a := 4 * rj) (b := fj) (d := 4 * rj + fj) hC (by first | rfl | omega) dX3_protect_56 ?_
        refine m_zld hC hE hG 22 (by decide) rfl (N := 320) rfl (by decide) (j := 4 * rj + fj) (v := σ.2 22 (4 * rj + fj)) (by omega) (rfl) dX3_protect_57 ?_
        refine lv_istore (lv' := [(4, .int (σ.2 22 (4 * rj + fj))), (0, .ref (h 25)), (1, .int (nI (rj))), (2, .int (nI (fj))), (3, .int (z))]) hC.1 hC.2.1 dX3_protect_58 hl (by decide) rfl (fun ls hl => ?_)
        refine lv_aload_n hC.1 hC.2.1 dX3_protect_60 rfl (lv_at hl 1 rfl) ?_
        refine lv_dup hC.1 hC.2.1 dX3_protect_61 rfl ?_
        refine m_gets hC hE hG 13 (by decide) (fun _ => rfl) (v := σ.1 13) (rfl) q769 rfl dX3_protect_62 ?_
        refine lv_iconst (v := 1) hC.1 hC.2.1 dX3_protect_65 (by decide) ?_
        refine lv_iadd hC.1 hC.2.1 dX3_protect_66 ?_
        refine m_puts hC hE hG 13 (by decide) q769 dX3_protect_67 (fun H locs hG => ?_)
        refine lv_aload_n hC.1 hC.2.1 dX3_protect_70 rfl (lv_at hl 1 rfl) ?_
        refine lv_iload_n hC.1 hC.2.1 dX3_protect_71 rfl (lv_at hl 4 rfl) ?_
        refine lv_if_eq (tgt := 79) hC.1 hC.2.1 dX3_protect_72 (by decide) (fun c_72 => ?_) (fun c_72 => ?_)
        · skip
          refine lv_iconst (v := 2) hC.1 hC.2.1 dX3_protect_79 (by decide) ?_
          refine lv_iload_n hC.1 hC.2.1 dX3_protect_80 rfl (lv_at hl 2 rfl) ?_
          refine lv_iload_n hC.1 hC.2.1 dX3_protect_81 rfl (lv_at hl 3 rfl) ?_
          refine g_cVv (As := [.int ((2)), .int (nI (rj)), .int (nI (fj))]) (rest := []) (S := MS) hC hE hG (mt_add l K A G0 h (sS (sS (σ) 24 ((0))) 13 (σ.1 13 + (1))) ((2)) (nI (rj)) (nI (fj)) d hd hdm (wF_note (σ := sS (sS (σ) 24 ((0))) 13 (σ.1 13 + (1))) hw (vp_in_nI hrj (by decide)) (vp_in_nI (Nat.lt_trans hfj (by decide)) (by decide)) (fun _ _ _ => vp_in_nI hfj (by decide)))) (cwV 3 hC.2.2.2.2 (lw_V q867 q869 qs9 q26 q870) rfl rfl rfl (by decide +kernel) ⟨Nat.le_of_ble_eq_true rfl, Nat.le_of_ble_eq_true rfl⟩) (mput_o _ _ _ _) rfl rfl hl.1 rfl (Nat.le_of_ble_eq_true rfl) dX3_protect_82 ⟨Nat.le_of_ble_eq_true rfl, Nat.le_of_ble_eq_true rfl⟩ (fun u H locs hu9 hG => ?_)
          subst hu9
          refine lv_iload hC.1 hC.2.1 dX3_protect_85 (lv_at hl 0 rfl) ?_
          exact g_iret hC hG hr (nb01 (hk _)) (mAdd (sS (sS (σ) 24 ((0))) 13 (σ.1 13 + (1))) d ((2)) (nI (rj)) (nI (fj))) rfl (by (simp only [mProtect, if_pos c_6, if_pos c_15, if_neg c_28, if_pos c_72]) <;> simp only [erj, efj]) hlocks dX3_protect_87
        · skip
          refine lv_iconst (v := 1) hC.1 hC.2.1 dX3_protect_75 (by decide) ?_
          refine lv_goto (tgt := 80) hC.1 hC.2.1 dX3_protect_76 (by decide) ?_
          refine lv_iload_n hC.1 hC.2.1 dX3_protect_80 rfl (lv_at hl 2 rfl) ?_
          refine lv_iload_n hC.1 hC.2.1 dX3_protect_81 rfl (lv_at hl 3 rfl) ?_
          refine g_cVv (As := [.int ((1)), .int (nI (rj)), .int (nI (fj))]) (rest := []) (S := MS) hC hE hG (mt_add l K A G0 h (sS (sS (σ) 24 ((0))) 13 (σ.1 13 + (1))) ((1)) (nI (rj)) (nI (fj)) d hd hdm (wF_note (σ := sS (sS (σ) 24 ((0))) 13 (σ.1 13 + (1))) hw (vp_in_nI hrj (by decide)) (vp_in_nI (Nat.lt_trans hfj (by decide)) (by decide)) (fun _ _ _ => vp_in_nI hfj (by decide)))) (cwV 3 hC.2.2.2.2 (lw_V q867 q869 qs9 q26 q870) rfl rfl rfl (by decide +kernel) ⟨Nat.le_of_ble_eq_true rfl, Nat.le_of_ble_eq_true rfl⟩) (mput_o _ _ _ _) rfl rfl hl.1 rfl (Nat.le_of_ble_eq_true rfl) dX3_protect_82 ⟨Nat.le_of_ble_eq_true rfl, Nat.le_of_ble_eq_true rfl⟩ (fun u H locs hu9 hG => ?_)
          subst hu9
          refine lv_iload hC.1 hC.2.1 dX3_protect_85 (lv_at hl 0 rfl) ?_
          exact g_iret hC hG hr (nb01 (hk _)) (mAdd (sS (sS (σ) 24 ((0))) 13 (σ.1 13 + (1))) d ((1)) (nI (rj)) (nI (fj))) rfl (by (simp only [mProtect, if_pos c_6, if_pos c_15, if_neg c_28, if_neg c_72]) <;> simp only [erj, efj]) hlocks dX3_protect_87
      · skip
        refine lv_iconst (v := 2) hC.1 hC.2.1 dX3_protect_31 (by decide) ?_
        refine lv_goto (tgt := 36) hC.1 hC.2.1 dX3_protect_32 (by decide) ?_
        refine m_puts hC hE hG 24 (by decide) q780 dX3_protect_36 (fun H locs hG => ?_)
        refine lv_aload_n hC.1 hC.2.1 dX3_protect_39 rfl (lv_at hl 0 rfl) ?_
        refine m_gets hC hE hG 24 (by decide) (fun _ => rfl) (v := (2)) (rfl) q780 rfl dX3_protect_40 ?_
        refine lv_if_le (tgt := 48) hC.1 hC.2.1 dX3_protect_43 (by decide) (fun c_43 => absurd c_43 (by decide)) (fun c_43 => ?_)
        refine lv_iconst (v := 0) hC.1 hC.2.1 dX3_protect_46 (by decide) ?_
        exact g_iret hC hG hr (rfl) (sS (σ) 24 ((2))) rfl (by simp only [mProtect, if_pos c_6, if_pos c_15, if_pos c_28]) hlocks dX3_protect_47
    · skip
      refine lv_iconst (v := 1) hC.1 hC.2.1 dX3_protect_18 (by decide) ?_
      refine lv_goto (tgt := 36) hC.1 hC.2.1 dX3_protect_19 (by decide) ?_
      refine m_puts hC hE hG 24 (by decide) q780 dX3_protect_36 (fun H locs hG => ?_)
      refine lv_aload_n hC.1 hC.2.1 dX3_protect_39 rfl (lv_at hl 0 rfl) ?_
      refine m_gets hC hE hG 24 (by decide) (fun _ => rfl) (v := (1)) (rfl) q780 rfl dX3_protect_40 ?_
      refine lv_if_le (tgt := 48) hC.1 hC.2.1 dX3_protect_43 (by decide) (fun c_43 => absurd c_43 (by decide)) (fun c_43 => ?_)
      refine lv_iconst (v := 0) hC.1 hC.2.1 dX3_protect_46 (by decide) ?_
      exact g_iret hC hG hr (rfl) (sS (σ) 24 ((1))) rfl (by simp only [mProtect, if_pos c_6, if_neg c_15]) hlocks dX3_protect_47
set_option maxHeartbeats 4000000 in
theorem mt_hold (l : Launch) (K : GK) (A : Nat → Prop) (G0 : GM) (h : Nat → Nat) (σ : MS) (r : Int32) (d : Nat) (hd : d < 180) (hdm : σ.1 14 = nI d) (hw : wF σ) : Met l yX3_hold (ws_ yX3_hold cX3_hold 2 (some .int)) ({ frames := 4, cells := 0, slots := 0, locals := 94 }) (va_Pc ([.ref (h 25), .int (r)]) (gW K A (mput K.2.1 h (σ) G0))) (va_Qi (fun (r9 : Int32) (u9 : MS) => (r9, u9) = mHold σ r d) (fun u t => gB K A (mput K.2.1 h u G0) t) A) 0 0 (A) := by
  refine g_ofW (cc := cX3_hold) (by decide) (own := RX3) rfl (Nat.le_of_ble_eq_true rfl) ?_
  intro p e s m below meth c hC hr hlocks hnm hE hG ls hl
  have hl : lv_has ls 2 [(0, .ref (h 25)), (1, .int (r))] := hl
  refine lv_aload_n hC.1 hC.2.1 dX3_hold_0 rfl (lv_at hl 0 rfl) ?_
  refine lv_aload_n hC.1 hC.2.1 dX3_hold_1 rfl (lv_at hl 0 rfl) ?_
  refine lv_iload_n hC.1 hC.2.1 dX3_hold_2 rfl (lv_at hl 1 rfl) ?_
  refine g_roV (As := [.int (r)]) (rest := [.ref (h 25)]) hC hE hG (mt_isRecord l K A G0 h (σ) (r)) (cwV 1 hC.2.2.2.2 (lw_V q899 q901 qs16 q26 q902) rfl rfl rfl (by decide +kernel) ⟨Nat.le_of_ble_eq_true rfl, Nat.le_of_ble_eq_true rfl⟩) (mput_o _ _ _ _) rfl rfl hl.1 rfl (Nat.le_of_ble_eq_true rfl) dX3_hold_3 ⟨Nat.le_of_ble_eq_true rfl, Nat.le_of_ble_eq_true rfl⟩ (fun r hr9 => ?_)
  subst hr9
  refine b_ne (tgt := 13) hC dX3_hold_6 (by decide) (fun c_6 => ?_) (fun c_6 => ?_)
  · skip
    refine lv_aload_n hC.1 hC.2.1 dX3_hold_13 rfl (lv_at hl 0 rfl) ?_
    refine m_gets hC hE hG 13 (by decide) (fun _ => rfl) (v := σ.1 13) (rfl) q769 rfl dX3_hold_14 ?_
    refine lv_bipush (v := 100) hC.1 hC.2.1 dX3_hold_17 (by decide) ?_
    refine lv_icmp_ne (tgt := 26) hC.1 hC.2.1 dX3_hold_19 (by decide) (fun c_19 => ?_) (fun c_19 => ?_)
    · skip
      refine lv_iconst (v := 0) hC.1 hC.2.1 dX3_hold_26 (by decide) ?_
      refine m_puts hC hE hG 24 (by decide) q780 dX3_hold_27 (fun H locs hG => ?_)
      refine lv_aload_n hC.1 hC.2.1 dX3_hold_30 rfl (lv_at hl 0 rfl) ?_
      refine m_gets hC hE hG 24 (by decide) (fun _ => rfl) (v := (0)) (rfl) q780 rfl dX3_hold_31 ?_
      refine lv_if_le (tgt := 39) hC.1 hC.2.1 dX3_hold_34 (by decide) (fun c_34 => ?_) (fun c_34 => absurd c_34 (by decide))
      obtain ⟨rj, hrj, rfl⟩ : ∃ z, z < 80 ∧ r = nI z := ⟨tN r, (vp_nat (inR_in c_6.1 (by decide) rfl) (by decide)).2, (vp_nat (inR_in c_6.1 (by decide) rfl) (by decide)).1⟩
      have erj : tN (nI rj) = rj := tN_nI (by omega)
      refine lv_aload_n hC.1 hC.2.1 dX3_hold_39 rfl (lv_at hl 0 rfl) ?_
      refine lv_dup hC.1 hC.2.1 dX3_hold_40 rfl ?_
      refine m_gets hC hE hG 13 (by decide) (fun _ => rfl) (v := σ.1 13) (rfl) q769 rfl dX3_hold_41 ?_
      refine lv_iconst (v := 1) hC.1 hC.2.1 dX3_hold_44 (by decide) ?_
      refine lv_iadd hC.1 hC.2.1 dX3_hold_45 ?_
      refine m_puts hC hE hG 13 (by decide) q769 dX3_hold_46 (fun H locs hG => ?_)
      refine lv_aload_n hC.1 hC.2.1 dX3_hold_49 rfl (lv_at hl 0 rfl) ?_
      refine lv_iconst (v := 3) hC.1 hC.2.1 dX3_hold_50 (by decide) ?_
      refine lv_iload_n hC.1 hC.2.1 dX3_hold_51 rfl (lv_at hl 1 rfl) ?_
      refine lv_iconst (v := 0) hC.1 hC.2.1 dX3_hold_52 (by decide) ?_
      refine g_cVv (As := [.int ((3)), .int (nI (rj)), .int ((0))]) (rest := []) (S := MS) hC hE hG (mt_add l K A G0 h (sS (sS (σ) 24 ((0))) 13 (σ.1 13 + (1))) ((3)) (nI (rj)) ((0)) d hd hdm (wF_note (σ := sS (sS (σ) 24 ((0))) 13 (σ.1 13 + (1))) hw (vp_in_nI hrj (by decide)) (show vp_in (nI 0) 80 from vp_in_nI (by decide) (by decide)) (fun _ q => absurd rfl q))) (cwV 3 hC.2.2.2.2 (lw_V q867 q869 qs9 q26 q870) rfl rfl rfl (by decide +kernel) ⟨Nat.le_of_ble_eq_true rfl, Nat.le_of_ble_eq_true rfl⟩) (mput_o _ _ _ _) rfl rfl hl.1 rfl (Nat.le_of_ble_eq_true rfl) dX3_hold_53 ⟨Nat.le_of_ble_eq_true rfl, Nat.le_of_ble_eq_true rfl⟩ (fun u H locs hu9 hG => ?_)
      subst hu9
      refine lv_aload_n hC.1 hC.2.1 dX3_hold_56 rfl (lv_at hl 0 rfl) ?_
      refine m_geta hC hE hG 23 (by decide) (fun _ => rfl) q779 rfl dX3_hold_57 ?_
      refine lv_iload_n hC.1 hC.2.1 dX3_hold_60 rfl (lv_at hl 1 rfl) ?_
      refine m_ild hC hE hG 23 (by decide) rfl (N := 80) rfl (by decide) (j := rj) (v := (mAdd (sS (sS (σ) 24 ((0))) 13 (σ.1 13 + (1))) d ((3)) (nI (rj)) ((0))).2 23 rj) (by omega) (rfl) dX3_hold_61 ?_
      exact g_iret hC hG hr (rfl) (mAdd (sS (sS (σ) 24 ((0))) 13 (σ.1 13 + (1))) d ((3)) (nI (rj)) ((0))) rfl (by (simp only [mHold, if_pos c_6, if_neg c_19]) <;> simp only [erj]) hlocks dX3_hold_62
    · skip
      refine lv_iconst (v := 2) hC.1 hC.2.1 dX3_hold_22 (by decide) ?_
      refine lv_goto (tgt := 27) hC.1 hC.2.1 dX3_hold_23 (by decide) ?_
      refine m_puts hC hE hG 24 (by decide) q780 dX3_hold_27 (fun H locs hG => ?_)
      refine lv_aload_n hC.1 hC.2.1 dX3_hold_30 rfl (lv_at hl 0 rfl) ?_
      refine m_gets hC hE hG 24 (by decide) (fun _ => rfl) (v := (2)) (rfl) q780 rfl dX3_hold_31 ?_
      refine lv_if_le (tgt := 39) hC.1 hC.2.1 dX3_hold_34 (by decide) (fun c_34 => absurd c_34 (by decide)) (fun c_34 => ?_)
      refine lv_iconst (v := 0) hC.1 hC.2.1 dX3_hold_37 (by decide) ?_
      exact g_iret hC hG hr (rfl) (sS (σ) 24 ((2))) rfl (by simp only [mHold, if_pos c_6, if_pos c_19]) hlocks dX3_hold_38
  · skip
    refine lv_iconst (v := 1) hC.1 hC.2.1 dX3_hold_9 (by decide) ?_
    refine lv_goto (tgt := 27) hC.1 hC.2.1 dX3_hold_10 (by decide) ?_
    refine m_puts hC hE hG 24 (by decide) q780 dX3_hold_27 (fun H locs hG => ?_)
    refine lv_aload_n hC.1 hC.2.1 dX3_hold_30 rfl (lv_at hl 0 rfl) ?_
    refine m_gets hC hE hG 24 (by decide) (fun _ => rfl) (v := (1)) (rfl) q780 rfl dX3_hold_31 ?_
    refine lv_if_le (tgt := 39) hC.1 hC.2.1 dX3_hold_34 (by decide) (fun c_34 => absurd c_34 (by decide)) (fun c_34 => ?_)
    refine lv_iconst (v := 0) hC.1 hC.2.1 dX3_hold_37 (by decide) ?_
    exact g_iret hC hG hr (rfl) (sS (σ) 24 ((1))) rfl (by simp only [mHold, if_neg c_6]) hlocks dX3_hold_38
set_option maxHeartbeats 4000000 in
theorem mt_merge (l : Launch) (K : GK) (A : Nat → Prop) (G0 : GM) (h : Nat → Nat) (σ : MS) (r o : Int32) (d : Nat) (hd : d < 180) (hdm : σ.1 14 = nI d) (hw : wF σ) : Met l yX3_merge (ws_ yX3_merge cX3_merge 3 (some .int)) ({ frames := 4, cells := 0, slots := 0, locals := 94 }) (va_Pc ([.ref (h 25), .int (r), .int (o)]) (gW K A (mput K.2.1 h (σ) G0))) (va_Qi (fun (r9 : Int32) (u9 : MS) => (r9, u9) = mJoin σ r o d) (fun u t => gB K A (mput K.2.1 h u G0) t) A) 0 0 (A) := by
  refine g_ofW (cc := cX3_merge) (by decide) (own := RX3) rfl (Nat.le_of_ble_eq_true rfl) ?_
  intro p e s m below meth c hC hr hlocks hnm hE hG ls hl
  have hl : lv_has ls 3 [(0, .ref (h 25)), (1, .int (r)), (2, .int (o))] := hl
  refine lv_aload_n hC.1 hC.2.1 dX3_merge_0 rfl (lv_at hl 0 rfl) ?_
  refine lv_aload_n hC.1 hC.2.1 dX3_merge_1 rfl (lv_at hl 0 rfl) ?_
  refine lv_iload_n hC.1 hC.2.1 dX3_merge_2 rfl (lv_at hl 1 rfl) ?_
  refine g_roV (As := [.int (r)]) (rest := [.ref (h 25)]) hC hE hG (mt_isRecord l K A G0 h (σ) (r)) (cwV 1 hC.2.2.2.2 (lw_V q899 q901 qs16 q26 q902) rfl rfl rfl (by decide +kernel) ⟨Nat.le_of_ble_eq_true rfl, Nat.le_of_ble_eq_true rfl⟩) (mput_o _ _ _ _) rfl rfl hl.1 rfl (Nat.le_of_ble_eq_true rfl) dX3_merge_3 ⟨Nat.le_of_ble_eq_true rfl, Nat.le_of_ble_eq_true rfl⟩ (fun r hr9 => ?_)
  subst hr9
  refine b_eq (tgt := 17) hC dX3_merge_6 (by decide) (fun c_6 => ?_) (fun c_6 => ?_)
  · skip
    refine lv_iconst (v := 1) hC.1 hC.2.1 dX3_merge_17 (by decide) ?_
    refine lv_goto (tgt := 44) hC.1 hC.2.1 dX3_merge_18 (by decide) ?_
    refine m_puts hC hE hG 24 (by decide) q780 dX3_merge_44 (fun H locs hG => ?_)
    refine lv_aload_n hC.1 hC.2.1 dX3_merge_47 rfl (lv_at hl 0 rfl) ?_
    refine m_gets hC hE hG 24 (by decide) (fun _ => rfl) (v := (1)) (rfl) q780 rfl dX3_merge_48 ?_
    refine lv_if_le (tgt := 56) hC.1 hC.2.1 dX3_merge_51 (by decide) (fun c_51 => absurd c_51 (by decide)) (fun c_51 => ?_)
    refine lv_iconst (v := 0) hC.1 hC.2.1 dX3_merge_54 (by decide) ?_
    exact g_iret hC hG hr (rfl) (sS (σ) 24 ((1))) rfl (by simp only [mJoin, if_neg c_6]) hlocks dX3_merge_55
  · skip
    refine lv_aload_n hC.1 hC.2.1 dX3_merge_9 rfl (lv_at hl 0 rfl) ?_
    refine lv_iload_n hC.1 hC.2.1 dX3_merge_10 rfl (lv_at hl 2 rfl) ?_
    refine g_roV (As := [.int (o)]) (rest := [.ref (h 25)]) hC hE hG (mt_isRecord l K A G0 h (σ) (o)) (cwV 1 hC.2.2.2.2 (lw_V q899 q901 qs16 q26 q902) rfl rfl rfl (by decide +kernel) ⟨Nat.le_of_ble_eq_true rfl, Nat.le_of_ble_eq_true rfl⟩) (mput_o _ _ _ _) rfl rfl hl.1 rfl (Nat.le_of_ble_eq_true rfl) dX3_merge_11 ⟨Nat.le_of_ble_eq_true rfl, Nat.le_of_ble_eq_true rfl⟩ (fun r hr9 => ?_)
    subst hr9
    refine b_ne (tgt := 21) hC dX3_merge_14 (by decide) (fun c_14 => ?_) (fun c_14 => ?_)
    · skip
      refine lv_iload_n hC.1 hC.2.1 dX3_merge_21 rfl (lv_at hl 1 rfl) ?_
      refine lv_iload_n hC.1 hC.2.1 dX3_merge_22 rfl (lv_at hl 2 rfl) ?_
      refine lv_icmp_ne (tgt := 30) hC.1 hC.2.1 dX3_merge_23 (by decide) (fun c_23 => ?_) (fun c_23 => ?_)
      · skip
        refine lv_aload_n hC.1 hC.2.1 dX3_merge_30 rfl (lv_at hl 0 rfl) ?_
        refine m_gets hC hE hG 13 (by decide) (fun _ => rfl) (v := σ.1 13) (rfl) q769 rfl dX3_merge_31 ?_
        refine lv_bipush (v := 100) hC.1 hC.2.1 dX3_merge_34 (by decide) ?_
        refine lv_icmp_ne (tgt := 43) hC.1 hC.2.1 dX3_merge_36 (by decide) (fun c_36 => ?_) (fun c_36 => ?_)
        · skip
          refine lv_iconst (v := 0) hC.1 hC.2.1 dX3_merge_43 (by decide) ?_
          refine m_puts hC hE hG 24 (by decide) q780 dX3_merge_44 (fun H locs hG => ?_)
          refine lv_aload_n hC.1 hC.2.1 dX3_merge_47 rfl (lv_at hl 0 rfl) ?_
          refine m_gets hC hE hG 24 (by decide) (fun _ => rfl) (v := (0)) (rfl) q780 rfl dX3_merge_48 ?_
          refine lv_if_le (tgt := 56) hC.1 hC.2.1 dX3_merge_51 (by decide) (fun c_51 => ?_) (fun c_51 => absurd c_51 (by decide))
          obtain ⟨rj, hrj, rfl⟩ : ∃ z, z < 80 ∧ r = nI z := ⟨tN r, (vp_nat (inR_in c_6.1 (by decide) rfl) (by decide)).2, (vp_nat (inR_in c_6.1 (by decide) rfl) (by decide)).1⟩
          have erj : tN (nI rj) = rj := tN_nI (by omega)
          obtain ⟨oj, hoj, rfl⟩ : ∃ z, z < 80 ∧ o = nI z := ⟨tN o, (vp_nat (inR_in c_14.1 (by decide) rfl) (by decide)).2, (vp_nat (inR_in c_14.1 (by decide) rfl) (by decide)).1⟩
          have eoj : tN (nI oj) = oj := tN_nI (by omega)
          refine lv_aload_n hC.1 hC.2.1 dX3_merge_56 rfl (lv_at hl 0 rfl) ?_
          refine lv_dup hC.1 hC.2.1 dX3_merge_57 rfl ?_
          refine m_gets hC hE hG 13 (by decide) (fun _ => rfl) (v := σ.1 13) (rfl) q769 rfl dX3_merge_58 ?_
          refine lv_iconst (v := 1) hC.1 hC.2.1 dX3_merge_61 (by decide) ?_
          refine lv_iadd hC.1 hC.2.1 dX3_merge_62 ?_
          refine m_puts hC hE hG 13 (by decide) q769 dX3_merge_63 (fun H locs hG => ?_)
          refine lv_aload_n hC.1 hC.2.1 dX3_merge_66 rfl (lv_at hl 0 rfl) ?_
          refine lv_iconst (v := 4) hC.1 hC.2.1 dX3_merge_67 (by decide) ?_
          refine lv_iload_n hC.1 hC.2.1 dX3_merge_68 rfl (lv_at hl 1 rfl) ?_
          refine lv_iload_n hC.1 hC.2.1 dX3_merge_69 rfl (lv_at hl 2 rfl) ?_
          refine g_cVv (As := [.int ((4)), .int (nI (rj)), .int (nI (oj))]) (rest := []) (S := MS) hC hE hG (mt_add l K A G0 h (sS (sS (σ) 24 ((0))) 13 (σ.1 13 + (1))) ((4)) (nI (rj)) (nI (oj)) d hd hdm (wF_note (σ := sS (sS (σ) 24 ((0))) 13 (σ.1 13 + (1))) hw (vp_in_nI hrj (by decide)) (vp_in_nI hoj (by decide)) (fun _ _ q => absurd rfl q))) (cwV 3 hC.2.2.2.2 (lw_V q867 q869 qs9 q26 q870) rfl rfl rfl (by decide +kernel) ⟨Nat.le_of_ble_eq_true rfl, Nat.le_of_ble_eq_true rfl⟩) (mput_o _ _ _ _) rfl rfl hl.1 rfl (Nat.le_of_ble_eq_true rfl) dX3_merge_70 ⟨Nat.le_of_ble_eq_true rfl, Nat.le_of_ble_eq_true rfl⟩ (fun u H locs hu9 hG => ?_)
          subst hu9
          refine lv_aload_n hC.1 hC.2.1 dX3_merge_73 rfl (lv_at hl 0 rfl) ?_
          refine m_geta hC hE hG 23 (by decide) (fun _ => rfl) q779 rfl dX3_merge_74 ?_
          refine lv_iload_n hC.1 hC.2.1 dX3_merge_77 rfl (lv_at hl 2 rfl) ?_
          refine m_ild hC hE hG 23 (by decide) rfl (N := 80) rfl (by decide) (j := oj) (v := (mAdd (sS (sS (σ) 24 ((0))) 13 (σ.1 13 + (1))) d ((4)) (nI (rj)) (nI (oj))).2 23 oj) (by omega) (rfl) dX3_merge_78 ?_
          exact g_iret hC hG hr (rfl) (mAdd (sS (sS (σ) 24 ((0))) 13 (σ.1 13 + (1))) d ((4)) (nI (rj)) (nI (oj))) rfl (by (simp only [mJoin, if_pos c_6, if_pos c_14, if_neg c_23, if_neg c_36]) <;> simp only [erj, eoj]) hlocks dX3_merge_79
        · skip
          refine lv_iconst (v := 3) hC.1 hC.2.1 dX3_merge_39 (by decide) ?_
          refine lv_goto (tgt := 44) hC.1 hC.2.1 dX3_merge_40 (by decide) ?_
          refine m_puts hC hE hG 24 (by decide) q780 dX3_merge_44 (fun H locs hG => ?_)
          refine lv_aload_n hC.1 hC.2.1 dX3_merge_47 rfl (lv_at hl 0 rfl) ?_
          refine m_gets hC hE hG 24 (by decide) (fun _ => rfl) (v := (3)) (rfl) q780 rfl dX3_merge_48 ?_
          refine lv_if_le (tgt := 56) hC.1 hC.2.1 dX3_merge_51 (by decide) (fun c_51 => absurd c_51 (by decide)) (fun c_51 => ?_)
          refine lv_iconst (v := 0) hC.1 hC.2.1 dX3_merge_54 (by decide) ?_
          exact g_iret hC hG hr (rfl) (sS (σ) 24 ((3))) rfl (by simp only [mJoin, if_pos c_6, if_pos c_14, if_neg c_23, if_pos c_36]) hlocks dX3_merge_55
      · skip
        refine lv_iconst (v := 2) hC.1 hC.2.1 dX3_merge_26 (by decide) ?_
        refine lv_goto (tgt := 44) hC.1 hC.2.1 dX3_merge_27 (by decide) ?_
        refine m_puts hC hE hG 24 (by decide) q780 dX3_merge_44 (fun H locs hG => ?_)
        refine lv_aload_n hC.1 hC.2.1 dX3_merge_47 rfl (lv_at hl 0 rfl) ?_
        refine m_gets hC hE hG 24 (by decide) (fun _ => rfl) (v := (2)) (rfl) q780 rfl dX3_merge_48 ?_
        refine lv_if_le (tgt := 56) hC.1 hC.2.1 dX3_merge_51 (by decide) (fun c_51 => absurd c_51 (by decide)) (fun c_51 => ?_)
        refine lv_iconst (v := 0) hC.1 hC.2.1 dX3_merge_54 (by decide) ?_
        exact g_iret hC hG hr (rfl) (sS (σ) 24 ((2))) rfl (by simp only [mJoin, if_pos c_6, if_pos c_14, if_pos c_23]) hlocks dX3_merge_55
    · skip
      refine lv_iconst (v := 1) hC.1 hC.2.1 dX3_merge_17 (by decide) ?_
      refine lv_goto (tgt := 44) hC.1 hC.2.1 dX3_merge_18 (by decide) ?_
      refine m_puts hC hE hG 24 (by decide) q780 dX3_merge_44 (fun H locs hG => ?_)
      refine lv_aload_n hC.1 hC.2.1 dX3_merge_47 rfl (lv_at hl 0 rfl) ?_
      refine m_gets hC hE hG 24 (by decide) (fun _ => rfl) (v := (1)) (rfl) q780 rfl dX3_merge_48 ?_
      refine lv_if_le (tgt := 56) hC.1 hC.2.1 dX3_merge_51 (by decide) (fun c_51 => absurd c_51 (by decide)) (fun c_51 => ?_)
      refine lv_iconst (v := 0) hC.1 hC.2.1 dX3_merge_54 (by decide) ?_
      exact g_iret hC hG hr (rfl) (sS (σ) 24 ((1))) rfl (by simp only [mJoin, if_pos c_6, if_neg c_14]) hlocks dX3_merge_55
set_option maxHeartbeats 4000000 in
theorem mt_undo (l : Launch) (K : GK) (A : Nat → Prop) (G0 : GM) (h : Nat → Nat) (σ : MS) (b z : Int32) (nb d : Nat) (hb5 : σ.1 5 = nI nb) (hb2 : nb ≤ 10) (hd : d ≤ 180) (hdm : σ.1 14 = nI d) (hw : wF σ) (hz : z = 0 ∨ z = 1) : Met l yX3_undo (ws_ yX3_undo cX3_undo 3 (some .int)) ({ frames := 4, cells := 0, slots := 0, locals := 92 }) (va_Pc ([.ref (h 25), .int (b), .int (z)]) (gW K A (mput K.2.1 h (σ) G0))) (va_Qi (fun (r9 : Int32) (u9 : MS) => (r9, u9) = mUndo σ b z d) (fun u t => gB K A (mput K.2.1 h u G0) t) A) 0 0 (A) := by
  refine g_ofW (cc := cX3_undo) (by decide) (own := RX3) rfl (Nat.le_of_ble_eq_true rfl) ?_
  intro p e s m below meth c hC hr hlocks hnm hE hG ls hl
  have hl : lv_has ls 3 [(0, .ref (h 25)), (1, .int (b)), (2, .int (z))] := hl
  refine lv_aload_n hC.1 hC.2.1 dX3_undo_0 rfl (lv_at hl 0 rfl) ?_
  refine lv_iload_n hC.1 hC.2.1 dX3_undo_1 rfl (lv_at hl 1 rfl) ?_
  refine lv_iconst (v := 0) hC.1 hC.2.1 dX3_undo_2 (by decide) ?_
  refine lv_aload_n hC.1 hC.2.1 dX3_undo_3 rfl (lv_at hl 0 rfl) ?_
  refine m_gets hC hE hG 5 (by decide) (fun _ => rfl) (v := σ.1 5) (rfl) q761 rfl dX3_undo_4 ?_
  refine lv_iconst (v := 1) hC.1 hC.2.1 dX3_undo_7 (by decide) ?_
  refine lv_isub hC.1 hC.2.1 dX3_undo_8 ?_
  refine g_sP (As := [.int (b), .int ((0)), .int (σ.1 5 - (1))]) (rest := [.ref (h 25)]) hC (mt_in l (b) ((0)) (σ.1 5 - (1))) (va_cwS 3 hC.2.2.2.2 (lw_S q840 q841 q26 q842) rfl rfl rfl (by decide +kernel) ⟨Nat.le_of_ble_eq_true rfl, Nat.le_of_ble_eq_true rfl⟩) rfl hl.1 rfl (Nat.le_of_ble_eq_true rfl) dX3_undo_9 ⟨Nat.le_of_ble_eq_true rfl, Nat.le_of_ble_eq_true rfl⟩ (fun r hr9 => ?_)
  subst hr9
  refine b_ne (tgt := 19) hC dX3_undo_12 (by decide) (fun c_12 => ?_) (fun c_12 => ?_)
  · skip
    refine lv_aload_n hC.1 hC.2.1 dX3_undo_19 rfl (lv_at hl 0 rfl) ?_
    refine m_geta hC hE hG 6 (by decide) (fun _ => rfl) q762 rfl dX3_undo_20 ?_
    refine lv_iload_n hC.1 hC.2.1 dX3_undo_23 rfl (lv_at hl 1 rfl) ?_
    refine m_zald hC hE hG 6 (by decide) rfl (N := 10) rfl (i := b) (v := σ.2 6 (tN (b))) ((inR_b (n := 10) (hb5 ▸ c_12) hb2 (by decide)).1) (rfl) dX3_undo_24 ?_
    refine lv_iload_n hC.1 hC.2.1 dX3_undo_25 rfl (lv_at hl 2 rfl) ?_
    refine lv_icmp_ne (tgt := 33) hC.1 hC.2.1 dX3_undo_26 (by decide) (fun c_26 => ?_) (fun c_26 => ?_)
    · skip
      refine lv_iconst (v := 0) hC.1 hC.2.1 dX3_undo_33 (by decide) ?_
      refine m_puts hC hE hG 24 (by decide) q780 dX3_undo_34 (fun H locs hG => ?_)
      refine lv_aload_n hC.1 hC.2.1 dX3_undo_37 rfl (lv_at hl 0 rfl) ?_
      refine m_gets hC hE hG 24 (by decide) (fun _ => rfl) (v := (0)) (rfl) q780 rfl dX3_undo_38 ?_
      refine lv_if_le (tgt := 46) hC.1 hC.2.1 dX3_undo_41 (by decide) (fun c_41 => ?_) (fun c_41 => absurd c_41 (by decide))
      refine lv_aload_n hC.1 hC.2.1 dX3_undo_46 rfl (lv_at hl 0 rfl) ?_
      refine m_geta hC hE hG 6 (by decide) (fun _ => rfl) q762 rfl dX3_undo_47 ?_
      refine lv_iload_n hC.1 hC.2.1 dX3_undo_50 rfl (lv_at hl 1 rfl) ?_
      refine lv_iload_n hC.1 hC.2.1 dX3_undo_51 rfl (lv_at hl 2 rfl) ?_
      refine m_zast hC hE hG 6 (by decide) rfl (N := 10) rfl (i := b) ((inR_b (n := 10) (hb5 ▸ c_12) hb2 (by decide)).1) (nz01 hz) dX3_undo_52 (fun H locs hG => ?_)
      refine lv_aload_n hC.1 hC.2.1 dX3_undo_53 rfl (lv_at hl 0 rfl) ?_
      refine g_cVv (As := []) (rest := []) (S := MS) hC hE hG (mt_makeAnew l K A G0 h (sU (sS (σ) 24 ((0))) 6 (tN (b)) (z)) d hd hdm (show wF _ from hw)) (cwV 0 hC.2.2.2.2 (lw_V q915 q917 qs17 q26 q918) rfl rfl rfl (by decide +kernel) ⟨Nat.le_of_ble_eq_true rfl, Nat.le_of_ble_eq_true rfl⟩) (mput_o _ _ _ _) rfl rfl hl.1 rfl (Nat.le_of_ble_eq_true rfl) dX3_undo_54 ⟨Nat.le_of_ble_eq_true rfl, Nat.le_of_ble_eq_true rfl⟩ (fun u H locs hu9 hG => ?_)
      subst hu9
      refine lv_aload_n hC.1 hC.2.1 dX3_undo_57 rfl (lv_at hl 0 rfl) ?_
      refine g_roV (As := []) (rest := []) hC hE hG (mt_recordMany l K A G0 h (mAnew (sU (sS (σ) 24 ((0))) 6 (tN (b)) (z)) d) ) (cwV 0 hC.2.2.2.2 (lw_V q919 q921 qs18 q26 q922) rfl rfl rfl (by decide +kernel) ⟨Nat.le_of_ble_eq_true rfl, Nat.le_of_ble_eq_true rfl⟩) (mput_o _ _ _ _) rfl rfl hl.1 rfl (Nat.le_of_ble_eq_true rfl) dX3_undo_58 ⟨Nat.le_of_ble_eq_true rfl, Nat.le_of_ble_eq_true rfl⟩ (fun r hr9 => ?_)
      subst hr9
      exact g_iret hC hG hr (rfl) (mAnew (sU (sS (σ) 24 ((0))) 6 (tN (b)) (z)) d) rfl (by simp only [mUndo, if_pos c_12, if_neg c_26, if_true, if_false]) hlocks dX3_undo_61
    · skip
      refine lv_iconst (v := 2) hC.1 hC.2.1 dX3_undo_29 (by decide) ?_
      refine lv_goto (tgt := 34) hC.1 hC.2.1 dX3_undo_30 (by decide) ?_
      refine m_puts hC hE hG 24 (by decide) q780 dX3_undo_34 (fun H locs hG => ?_)
      refine lv_aload_n hC.1 hC.2.1 dX3_undo_37 rfl (lv_at hl 0 rfl) ?_
      refine m_gets hC hE hG 24 (by decide) (fun _ => rfl) (v := (2)) (rfl) q780 rfl dX3_undo_38 ?_
      refine lv_if_le (tgt := 46) hC.1 hC.2.1 dX3_undo_41 (by decide) (fun c_41 => absurd c_41 (by decide)) (fun c_41 => ?_)
      refine lv_iconst (v := 0) hC.1 hC.2.1 dX3_undo_44 (by decide) ?_
      exact g_iret hC hG hr (rfl) (sS (σ) 24 ((2))) rfl (by simp only [mUndo, if_pos c_12, if_pos c_26, if_true, if_false]) hlocks dX3_undo_45
  · skip
    refine lv_iconst (v := 1) hC.1 hC.2.1 dX3_undo_15 (by decide) ?_
    refine lv_goto (tgt := 34) hC.1 hC.2.1 dX3_undo_16 (by decide) ?_
    refine m_puts hC hE hG 24 (by decide) q780 dX3_undo_34 (fun H locs hG => ?_)
    refine lv_aload_n hC.1 hC.2.1 dX3_undo_37 rfl (lv_at hl 0 rfl) ?_
    refine m_gets hC hE hG 24 (by decide) (fun _ => rfl) (v := (1)) (rfl) q780 rfl dX3_undo_38 ?_
    refine lv_if_le (tgt := 46) hC.1 hC.2.1 dX3_undo_41 (by decide) (fun c_41 => absurd c_41 (by decide)) (fun c_41 => ?_)
    refine lv_iconst (v := 0) hC.1 hC.2.1 dX3_undo_44 (by decide) ?_
    exact g_iret hC hG hr (rfl) (sS (σ) 24 ((1))) rfl (by simp only [mUndo, if_neg c_12, if_true, if_false]) hlocks dX3_undo_45
set_option maxHeartbeats 4000000 in
theorem mt_digestAnew (l : Launch) (K : GK) (A : Nat → Prop) (G0 : GM) (h : Nat → Nat) (σ : MS) (d : Nat) (hd : d ≤ 180) (hdm : σ.1 14 = nI d) (hw : wF σ) : Met l yX3_digestAnew (ws_ yX3_digestAnew cX3_digestAnew 1 (some .int)) ({ frames := 4, cells := 0, slots := 0, locals := 92 }) (va_Pc ([.ref (h 25)]) (gW K A (mput K.2.1 h (σ) G0))) (va_Qi (fun (r9 : Int32) (u9 : MS) => (r9, u9) = (mSum (mAnew (sS σ 24 0) d) 80, mAnew (sS σ 24 0) d)) (fun u t => gB K A (mput K.2.1 h u G0) t) A) 0 0 (A) := by
  refine g_ofW (cc := cX3_digestAnew) (by decide) (own := RX3) rfl (Nat.le_of_ble_eq_true rfl) ?_
  intro p e s m below meth c hC hr hlocks hnm hE hG ls hl
  have hl : lv_has ls 1 [(0, .ref (h 25))] := hl
  refine lv_aload_n hC.1 hC.2.1 dX3_digestAnew_0 rfl (lv_at hl 0 rfl) ?_
  refine lv_iconst (v := 0) hC.1 hC.2.1 dX3_digestAnew_1 (by decide) ?_
  refine m_puts hC hE hG 24 (by decide) q780 dX3_digestAnew_2 (fun H locs hG => ?_)
  refine lv_aload_n hC.1 hC.2.1 dX3_digestAnew_5 rfl (lv_at hl 0 rfl) ?_
  refine g_cVv (As := []) (rest := []) (S := MS) hC hE hG (mt_makeAnew l K A G0 h (sS (σ) 24 ((0))) d hd hdm (show wF _ from hw)) (cwV 0 hC.2.2.2.2 (lw_V q915 q917 qs17 q26 q918) rfl rfl rfl (by decide +kernel) ⟨Nat.le_of_ble_eq_true rfl, Nat.le_of_ble_eq_true rfl⟩) (mput_o _ _ _ _) rfl rfl hl.1 rfl (Nat.le_of_ble_eq_true rfl) dX3_digestAnew_6 ⟨Nat.le_of_ble_eq_true rfl, Nat.le_of_ble_eq_true rfl⟩ (fun u H locs hu9 hG => ?_)
  subst hu9
  refine lv_aload_n hC.1 hC.2.1 dX3_digestAnew_9 rfl (lv_at hl 0 rfl) ?_
  refine g_roV (As := []) (rest := []) hC hE hG (mt_sum l K A G0 h (mAnew (sS (σ) 24 ((0))) d) ) (cwV 0 hC.2.2.2.2 (lw_V q967 q969 qs19 q26 q970) rfl rfl rfl (by decide +kernel) ⟨Nat.le_of_ble_eq_true rfl, Nat.le_of_ble_eq_true rfl⟩) (mput_o _ _ _ _) rfl rfl hl.1 rfl (Nat.le_of_ble_eq_true rfl) dX3_digestAnew_10 ⟨Nat.le_of_ble_eq_true rfl, Nat.le_of_ble_eq_true rfl⟩ (fun r hr9 => ?_)
  subst hr9
  exact g_iret hC hG hr (rfl) (mAnew (sS (σ) 24 ((0))) d) rfl (by rfl) hlocks dX3_digestAnew_13
